/-! block rows of class X0: printed by gen_blocks.py -/
set_option maxRecDepth 100000
theorem bX0_parent_0 {cs ss : Nat → Option (Nat × eh_T)} {lim : Nat × Nat} {Rt : Option eh_V → eh_S → Prop} {X : eh_X} (hX : eh_Ru eh_nX eh_fl0 eh_kn0 cs ss lim Rt 0 cX0_parent X) {T77 : eh_T} (hc77 : ss 77 = some (3, T77)) {σ : eh_S}  {a1 : Int} {a2 : Int} {o3 : Option eh_V}  (h : eh_ok σ → T77 [.inl a1, .inl 0, .inl 15] σ (0, 0) (fun r σ1 => X 7 [some (.inr (some (0, 0))), some (.inl a1), some (.inl a2), o3] (r.toList ++ []) σ1 (0, 0))) : X 0 [some (.inr (some (0, 0))), some (.inl a1), some (.inl a2), o3] [] σ (0, 0) := by
  refine ru_ok hX (fun hok => ?_)
  replace h := h hok
  refine ru_iload_n hX dX0_parent_0 rfl (fun _ => ?_)
  refine ru_iconst hX dX0_parent_1 (fun _ => ?_)
  refine ru_bipush hX dX0_parent_2 (by decide) (fun _ => ?_)
  exact ru_callS (as := [.inl a1, .inl 0, .inl 15]) (rest := []) hX dX0_parent_4 hc77 rfl (Nat.le_of_ble_eq_true rfl) (0, 0) ⟨Nat.zero_le _, Nat.zero_le _⟩ h
theorem bX0_parent_7 {cs ss : Nat → Option (Nat × eh_T)} {lim : Nat × Nat} {Rt : Option eh_V → eh_S → Prop} {X : eh_X} (hX : eh_Ru eh_nX eh_fl0 eh_kn0 cs ss lim Rt 0 cX0_parent X) {T77 : eh_T} (hc77 : ss 77 = some (3, T77)) {σ : eh_S}  {a1 : Int} {a2 : Int} {o3 : Option eh_V} {s0 : Int}  (h : eh_ok σ → (-2147483648 ≤ s0 ∧ s0 < 2147483648) ∧ ((s0 = 0 → Rt (some (.inl (-2))) σ) ∧ (¬ s0 = 0 → T77 [.inl a2, .inl (-1), .inl (a1 - 1)] σ (0, 0) (fun r σ1 => X 18 [some (.inr (some (0, 0))), some (.inl a1), some (.inl a2), o3] (r.toList ++ []) σ1 (0, 0))))) : X 7 [some (.inr (some (0, 0))), some (.inl a1), some (.inl a2), o3] [.inl s0] σ (0, 0) := by
  refine ru_ok hX (fun hok => ?_)
  replace h := h hok
  obtain ⟨k1, h⟩ := h
  refine ru_if_eq (tgt := 21) hX dX0_parent_7 (by decide) k1 (fun q => ?_) (fun q => ?_)
  · have q2 := q
    replace h := h.1 q2
    refine ru_bipush hX dX0_parent_21 (by decide) (fun _ => ?_)
    exact ru_ireturn hX dX0_parent_23 (Or.inl rfl) ⟨Nat.zero_le _, Nat.zero_le _⟩ (fun _ => h)
  · have q3 := q
    replace h := h.2 q3
    refine ru_iload_n hX dX0_parent_10 rfl (fun _ => ?_)
    refine ru_iconst hX dX0_parent_11 (fun _ => ?_)
    refine ru_iload_n hX dX0_parent_12 rfl (fun _ => ?_)
    refine ru_iconst hX dX0_parent_13 (fun _ => ?_)
    refine ru_isub hX dX0_parent_14 (fun _ => ?_)
    exact ru_callS (as := [.inl a2, .inl (-1), .inl (a1 - 1)]) (rest := []) hX dX0_parent_15 hc77 rfl (Nat.le_of_ble_eq_true rfl) (0, 0) ⟨Nat.zero_le _, Nat.zero_le _⟩ h
theorem bX0_parent_18 {cs ss : Nat → Option (Nat × eh_T)} {lim : Nat × Nat} {Rt : Option eh_V → eh_S → Prop} {X : eh_X} (hX : eh_Ru eh_nX eh_fl0 eh_kn0 cs ss lim Rt 0 cX0_parent X)  {σ : eh_S}  {a1 : Int} {a2 : Int} {o3 : Option eh_V} {s0 : Int}  (h : eh_ok σ → (-2147483648 ≤ s0 ∧ s0 < 2147483648) ∧ ((s0 = 0 → Rt (some (.inl (-2))) σ) ∧ (¬ s0 = 0 → X 26 [some (.inr (some (0, 0))), some (.inl a1), some (.inl a2), some (.inl 0)] [] σ (0, 0)))) : X 18 [some (.inr (some (0, 0))), some (.inl a1), some (.inl a2), o3] [.inl s0] σ (0, 0) := by
  refine ru_ok hX (fun hok => ?_)
  replace h := h hok
  obtain ⟨k1, h⟩ := h
  refine ru_if_ne (tgt := 24) hX dX0_parent_18 (by decide) k1 (fun q => ?_) (fun q => ?_)
  · have q2 := q
    replace h := h.2 q2
    refine ru_iconst hX dX0_parent_24 (fun _ => ?_)
    refine ru_istore_n (ls1 := [some (.inr (some (0, 0))), some (.inl a1), some (.inl a2), some (.inl 0)]) hX dX0_parent_25 (Nat.le_of_ble_eq_true rfl) rfl (fun _ => ?_)
    exact h
  · have q3 := q
    replace h := h.1 q3
    refine ru_bipush hX dX0_parent_21 (by decide) (fun _ => ?_)
    exact ru_ireturn hX dX0_parent_23 (Or.inl rfl) ⟨Nat.zero_le _, Nat.zero_le _⟩ (fun _ => h)
theorem bX0_parent_26 {cs ss : Nat → Option (Nat × eh_T)} {lim : Nat × Nat} {Rt : Option eh_V → eh_S → Prop} {X : eh_X} (hX : eh_Ru eh_nX eh_fl0 eh_kn0 cs ss lim Rt 0 cX0_parent X)  {σ : eh_S}  {a1 : Int} {a2 : Int} {a3 : Int}  (h : eh_ok σ → (-2147483648 ≤ a3 ∧ a3 < 2147483648) ∧ ((σ.1 118 0 ≤ a3 → (0 ≤ a1 ∧ a1 < 16) ∧ (-2147483648 ≤ a2 ∧ a2 < 2147483648) ∧ Rt (some (.inl (σ.2 100 0 a1))) (eh_sA σ 100 0 a1 a2)) ∧ (¬ σ.1 118 0 ≤ a3 → (0 ≤ a3 ∧ a3 < 8) ∧ ((σ.1 409 a3 = 0 → X 26 [some (.inr (some (0, 0))), some (.inl a1), some (.inl a2), some (.inl (a3 + 1))] [] σ (0, 0)) ∧ (¬ σ.1 409 a3 = 0 → Rt (some (.inl (-3))) σ))))) : X 26 [some (.inr (some (0, 0))), some (.inl a1), some (.inl a2), some (.inl a3)] [] σ (0, 0) := by
  refine ru_ok hX (fun hok => ?_)
  replace h := h hok
  refine ru_iload_n hX dX0_parent_26 rfl (fun _ => ?_)
  refine ru_aload_n hX dX0_parent_27 rfl (fun _ => ?_)
  refine ru_get (v := .inl (σ.1 118 0)) hX dX0_parent_28 rfl ⟨by decide, by decide⟩ rfl (fun _ => ?_)
  obtain ⟨k1, h⟩ := h
  refine ru_icmp_ge (tgt := 55) hX dX0_parent_31 (by decide) k1 (hok.1 _ _) (fun q => ?_) (fun q => ?_)
  · have q2 := q
    replace h := h.1 q2
    refine ru_aload_n hX dX0_parent_55 rfl (fun _ => ?_)
    refine ru_get (v := .inr (some (100, 0))) hX dX0_parent_56 rfl ⟨by decide, by decide⟩ rfl (fun _ => ?_)
    refine ru_iload_n hX dX0_parent_59 rfl (fun _ => ?_)
    obtain ⟨k3, h⟩ := h
    refine ru_iaload hX dX0_parent_60 ⟨by decide, by decide⟩ rfl k3 (fun _ => ?_)
    refine ru_istore_n (ls1 := [some (.inr (some (0, 0))), some (.inl a1), some (.inl a2), some (.inl (σ.2 100 0 a1))]) hX dX0_parent_61 (Nat.le_of_ble_eq_true rfl) rfl (fun _ => ?_)
    refine ru_aload_n hX dX0_parent_62 rfl (fun _ => ?_)
    refine ru_get (v := .inr (some (100, 0))) hX dX0_parent_63 rfl ⟨by decide, by decide⟩ rfl (fun _ => ?_)
    refine ru_iload_n hX dX0_parent_66 rfl (fun _ => ?_)
    refine ru_iload_n hX dX0_parent_67 rfl (fun _ => ?_)
    obtain ⟨k4, h⟩ := h
    refine ru_iastore hX dX0_parent_68 ⟨by decide, by decide⟩ rfl k3 k4 (fun _ => ?_)
    refine ru_iload_n hX dX0_parent_69 rfl (fun hok5 => ?_)
    exact ru_ireturn hX dX0_parent_70 (Or.inl rfl) ⟨Nat.zero_le _, Nat.zero_le _⟩ (fun _ => h)
  · have q6 := q
    replace h := h.2 q6
    refine ru_aload_n hX dX0_parent_34 rfl (fun _ => ?_)
    refine ru_get (v := .inr (some (117, 0))) hX dX0_parent_35 rfl ⟨by decide, by decide⟩ rfl (fun _ => ?_)
    refine ru_iload_n hX dX0_parent_38 rfl (fun _ => ?_)
    obtain ⟨k7, h⟩ := h
    refine ru_paload hX dX0_parent_39 ⟨by decide, by decide⟩ k7 (fun _ => ?_)
    refine ru_get (v := .inl (σ.1 409 a3)) hX dX0_parent_40 rfl k7 rfl (fun _ => ?_)
    refine ru_if_eq (tgt := 49) hX dX0_parent_43 (by decide) (hok.1 _ _) (fun q => ?_) (fun q => ?_)
    · have q8 := q
      replace h := h.1 q8
      refine ru_iinc (ls1 := [some (.inr (some (0, 0))), some (.inl a1), some (.inl a2), some (.inl (a3 + 1))]) hX dX0_parent_49 rfl rfl (fun _ => ?_)
      refine ru_goto (tgt := 26) hX dX0_parent_52 (by decide) ?_
      exact h
    · have q9 := q
      replace h := h.2 q9
      refine ru_bipush hX dX0_parent_46 (by decide) (fun _ => ?_)
      exact ru_ireturn hX dX0_parent_48 (Or.inl rfl) ⟨Nat.zero_le _, Nat.zero_le _⟩ (fun _ => h)
theorem bX0_within_0 {cs ss : Nat → Option (Nat × eh_T)} {lim : Nat × Nat} {Rt : Option eh_V → eh_S → Prop} {X : eh_X} (hX : eh_Ru eh_nX eh_fl0 eh_kn0 cs ss lim Rt 1 cX0_within X)  {σ : eh_S}  {a0 : Int} {a1 : Int} {a2 : Int}  (h : eh_ok σ → (-2147483648 ≤ a0 ∧ a0 < 2147483648) ∧ (-2147483648 ≤ a1 ∧ a1 < 2147483648) ∧ ((a0 < a1 → Rt (some (.inl 0)) σ) ∧ (¬ a0 < a1 → (-2147483648 ≤ a2 ∧ a2 < 2147483648) ∧ ((a2 < a0 → Rt (some (.inl 0)) σ) ∧ (¬ a2 < a0 → Rt (some (.inl 1)) σ))))) : X 0 [some (.inl a0), some (.inl a1), some (.inl a2)] [] σ (0, 0) := by
  refine ru_ok hX (fun hok => ?_)
  replace h := h hok
  refine ru_iload_n hX dX0_within_0 rfl (fun _ => ?_)
  refine ru_iload_n hX dX0_within_1 rfl (fun _ => ?_)
  obtain ⟨k1, h⟩ := h
  obtain ⟨k2, h⟩ := h
  refine ru_icmp_lt (tgt := 14) hX dX0_within_2 (by decide) k1 k2 (fun q => ?_) (fun q => ?_)
  · have q3 := q
    replace h := h.1 q3
    refine ru_iconst hX dX0_within_14 (fun _ => ?_)
    exact ru_ireturn hX dX0_within_15 (Or.inr ⟨rfl, by decide⟩) ⟨Nat.zero_le _, Nat.zero_le _⟩ (fun _ => h)
  · have q4 := q
    replace h := h.2 q4
    refine ru_iload_n hX dX0_within_5 rfl (fun _ => ?_)
    refine ru_iload_n hX dX0_within_6 rfl (fun _ => ?_)
    obtain ⟨k5, h⟩ := h
    refine ru_icmp_gt (tgt := 14) hX dX0_within_7 (by decide) k1 k5 (fun q => ?_) (fun q => ?_)
    · have q6 := q
      replace h := h.1 q6
      refine ru_iconst hX dX0_within_14 (fun _ => ?_)
      exact ru_ireturn hX dX0_within_15 (Or.inr ⟨rfl, by decide⟩) ⟨Nat.zero_le _, Nat.zero_le _⟩ (fun _ => h)
    · have q7 := q
      replace h := h.2 q7
      refine ru_iconst hX dX0_within_10 (fun _ => ?_)
      refine ru_goto (tgt := 15) hX dX0_within_11 (by decide) ?_
      exact ru_ireturn hX dX0_within_15 (Or.inr ⟨rfl, by decide⟩) ⟨Nat.zero_le _, Nat.zero_le _⟩ (fun _ => h)
theorem bX0_pattern_0 {cs ss : Nat → Option (Nat × eh_T)} {lim : Nat × Nat} {Rt : Option eh_V → eh_S → Prop} {X : eh_X} (hX : eh_Ru eh_nX eh_fl0 eh_kn0 cs ss lim Rt 0 cX0_pattern X) {T77 : eh_T} (hc77 : ss 77 = some (3, T77)) {σ : eh_S}  {a1 : Int} {a2 : Int} {a3 : Int} {o4 : Option eh_V}  (h : eh_ok σ → T77 [.inl a1, .inl 1, .inl 1000] σ (0, 0) (fun r σ1 => X 8 [some (.inr (some (0, 0))), some (.inl a1), some (.inl a2), some (.inl a3), o4] (r.toList ++ []) σ1 (0, 0))) : X 0 [some (.inr (some (0, 0))), some (.inl a1), some (.inl a2), some (.inl a3), o4] [] σ (0, 0) := by
  refine ru_ok hX (fun hok => ?_)
  replace h := h hok
  refine ru_iload_n hX dX0_pattern_0 rfl (fun _ => ?_)
  refine ru_iconst hX dX0_pattern_1 (fun _ => ?_)
  refine ru_sipush hX dX0_pattern_2 (by decide) (fun _ => ?_)
  exact ru_callS (as := [.inl a1, .inl 1, .inl 1000]) (rest := []) hX dX0_pattern_5 hc77 rfl (Nat.le_of_ble_eq_true rfl) (0, 0) ⟨Nat.zero_le _, Nat.zero_le _⟩ h
theorem bX0_pattern_8 {cs ss : Nat → Option (Nat × eh_T)} {lim : Nat × Nat} {Rt : Option eh_V → eh_S → Prop} {X : eh_X} (hX : eh_Ru eh_nX eh_fl0 eh_kn0 cs ss lim Rt 0 cX0_pattern X) {T77 : eh_T} (hc77 : ss 77 = some (3, T77)) {σ : eh_S}  {a1 : Int} {a2 : Int} {a3 : Int} {o4 : Option eh_V} {s0 : Int}  (h : eh_ok σ → (-2147483648 ≤ s0 ∧ s0 < 2147483648) ∧ ((s0 = 0 → Rt (some (.inl (-1))) σ) ∧ (¬ s0 = 0 → T77 [.inl a2, .inl 0, .inl 1] σ (0, 0) (fun r σ1 => X 17 [some (.inr (some (0, 0))), some (.inl a1), some (.inl a2), some (.inl a3), o4] (r.toList ++ []) σ1 (0, 0))))) : X 8 [some (.inr (some (0, 0))), some (.inl a1), some (.inl a2), some (.inl a3), o4] [.inl s0] σ (0, 0) := by
  refine ru_ok hX (fun hok => ?_)
  replace h := h hok
  obtain ⟨k1, h⟩ := h
  refine ru_if_eq (tgt := 29) hX dX0_pattern_8 (by decide) k1 (fun q => ?_) (fun q => ?_)
  · have q2 := q
    replace h := h.1 q2
    refine ru_iconst hX dX0_pattern_29 (fun _ => ?_)
    exact ru_ireturn hX dX0_pattern_30 (Or.inl rfl) ⟨Nat.zero_le _, Nat.zero_le _⟩ (fun _ => h)
  · have q3 := q
    replace h := h.2 q3
    refine ru_iload_n hX dX0_pattern_11 rfl (fun _ => ?_)
    refine ru_iconst hX dX0_pattern_12 (fun _ => ?_)
    refine ru_iconst hX dX0_pattern_13 (fun _ => ?_)
    exact ru_callS (as := [.inl a2, .inl 0, .inl 1]) (rest := []) hX dX0_pattern_14 hc77 rfl (Nat.le_of_ble_eq_true rfl) (0, 0) ⟨Nat.zero_le _, Nat.zero_le _⟩ h
theorem bX0_pattern_17 {cs ss : Nat → Option (Nat × eh_T)} {lim : Nat × Nat} {Rt : Option eh_V → eh_S → Prop} {X : eh_X} (hX : eh_Ru eh_nX eh_fl0 eh_kn0 cs ss lim Rt 0 cX0_pattern X) {T77 : eh_T} (hc77 : ss 77 = some (3, T77)) {σ : eh_S}  {a1 : Int} {a2 : Int} {a3 : Int} {o4 : Option eh_V} {s0 : Int}  (h : eh_ok σ → (-2147483648 ≤ s0 ∧ s0 < 2147483648) ∧ ((s0 = 0 → Rt (some (.inl (-1))) σ) ∧ (¬ s0 = 0 → T77 [.inl a3, .inl (-1), .inl 3] σ (0, 0) (fun r σ1 => X 26 [some (.inr (some (0, 0))), some (.inl a1), some (.inl a2), some (.inl a3), o4] (r.toList ++ []) σ1 (0, 0))))) : X 17 [some (.inr (some (0, 0))), some (.inl a1), some (.inl a2), some (.inl a3), o4] [.inl s0] σ (0, 0) := by
  refine ru_ok hX (fun hok => ?_)
  replace h := h hok
  obtain ⟨k1, h⟩ := h
  refine ru_if_eq (tgt := 29) hX dX0_pattern_17 (by decide) k1 (fun q => ?_) (fun q => ?_)
  · have q2 := q
    replace h := h.1 q2
    refine ru_iconst hX dX0_pattern_29 (fun _ => ?_)
    exact ru_ireturn hX dX0_pattern_30 (Or.inl rfl) ⟨Nat.zero_le _, Nat.zero_le _⟩ (fun _ => h)
  · have q3 := q
    replace h := h.2 q3
    refine ru_iload_n hX dX0_pattern_20 rfl (fun _ => ?_)
    refine ru_iconst hX dX0_pattern_21 (fun _ => ?_)
    refine ru_iconst hX dX0_pattern_22 (fun _ => ?_)
    exact ru_callS (as := [.inl a3, .inl (-1), .inl 3]) (rest := []) hX dX0_pattern_23 hc77 rfl (Nat.le_of_ble_eq_true rfl) (0, 0) ⟨Nat.zero_le _, Nat.zero_le _⟩ h
theorem bX0_pattern_26 {cs ss : Nat → Option (Nat × eh_T)} {lim : Nat × Nat} {Rt : Option eh_V → eh_S → Prop} {X : eh_X} (hX : eh_Ru eh_nX eh_fl0 eh_kn0 cs ss lim Rt 0 cX0_pattern X)  {σ : eh_S}  {a1 : Int} {a2 : Int} {a3 : Int} {o4 : Option eh_V} {s0 : Int}  (h : eh_ok σ → (-2147483648 ≤ s0 ∧ s0 < 2147483648) ∧ ((s0 = 0 → Rt (some (.inl (-1))) σ) ∧ (¬ s0 = 0 → ((σ.1 118 0 = 8 → Rt (some (.inl (-4))) σ) ∧ (¬ σ.1 118 0 = 8 → (0 ≤ σ.1 118 0 ∧ σ.1 118 0 < 8) ∧ (-2147483648 ≤ a1 ∧ a1 < 2147483648) ∧ (-2147483648 ≤ a2 ∧ a2 < 2147483648) ∧ (-2147483648 ≤ a3 ∧ a3 < 2147483648) ∧ (-2147483648 ≤ (σ.1 118 0) + 1 ∧ (σ.1 118 0) + 1 < 2147483648) ∧ Rt (some (.inl (σ.1 118 0))) (eh_sV (eh_sV (eh_sV (eh_sV σ 400 (σ.1 118 0) a1) 401 (σ.1 118 0) a2) 402 (σ.1 118 0) a3) 118 0 ((σ.1 118 0) + 1))))))) : X 26 [some (.inr (some (0, 0))), some (.inl a1), some (.inl a2), some (.inl a3), o4] [.inl s0] σ (0, 0) := by
  refine ru_ok hX (fun hok => ?_)
  replace h := h hok
  obtain ⟨k1, h⟩ := h
  refine ru_if_ne (tgt := 31) hX dX0_pattern_26 (by decide) k1 (fun q => ?_) (fun q => ?_)
  · have q2 := q
    replace h := h.2 q2
    refine ru_aload_n hX dX0_pattern_31 rfl (fun _ => ?_)
    refine ru_get (v := .inl (σ.1 118 0)) hX dX0_pattern_32 rfl ⟨by decide, by decide⟩ rfl (fun _ => ?_)
    refine ru_bipush hX dX0_pattern_35 (by decide) (fun _ => ?_)
    refine ru_icmp_ne (tgt := 43) hX dX0_pattern_37 (by decide) (hok.1 _ _) (by unfold eh_r; decide) (fun q => ?_) (fun q => ?_)
    · have q3 := q
      replace h := h.2 q3
      refine ru_aload_n hX dX0_pattern_43 rfl (fun _ => ?_)
      refine ru_get (v := .inr (some (117, 0))) hX dX0_pattern_44 rfl ⟨by decide, by decide⟩ rfl (fun _ => ?_)
      refine ru_aload_n hX dX0_pattern_47 rfl (fun _ => ?_)
      refine ru_get (v := .inl (σ.1 118 0)) hX dX0_pattern_48 rfl ⟨by decide, by decide⟩ rfl (fun _ => ?_)
      obtain ⟨k4, h⟩ := h
      refine ru_paload hX dX0_pattern_51 ⟨by decide, by decide⟩ k4 (fun _ => ?_)
      refine ru_astore (ls1 := [some (.inr (some (0, 0))), some (.inl a1), some (.inl a2), some (.inl a3), some (.inr (some (3, σ.1 118 0)))]) hX dX0_pattern_52 (Nat.le_of_ble_eq_true rfl) rfl (fun _ => ?_)
      refine ru_aload hX dX0_pattern_54 rfl (fun _ => ?_)
      refine ru_iload_n hX dX0_pattern_56 rfl (fun _ => ?_)
      obtain ⟨k5, h⟩ := h
      refine ru_putI (id := 400) hX dX0_pattern_57 rfl k4 rfl k5 rfl (fun _ => ?_)
      refine ru_aload hX dX0_pattern_60 rfl (fun hok6 => ?_)
      refine ru_iload_n hX dX0_pattern_62 rfl (fun _ => ?_)
      obtain ⟨k7, h⟩ := h
      refine ru_putI (id := 401) hX dX0_pattern_63 rfl k4 rfl k7 rfl (fun _ => ?_)
      refine ru_aload hX dX0_pattern_66 rfl (fun hok8 => ?_)
      refine ru_iload_n hX dX0_pattern_68 rfl (fun _ => ?_)
      obtain ⟨k9, h⟩ := h
      refine ru_putI (id := 402) hX dX0_pattern_69 rfl k4 rfl k9 rfl (fun _ => ?_)
      refine ru_aload_n hX dX0_pattern_72 rfl (fun hok10 => ?_)
      refine ru_dup hX dX0_pattern_73 (fun _ => ?_)
      refine ru_get (v := .inl (σ.1 118 0)) hX dX0_pattern_74 rfl ⟨by decide, by decide⟩ rfl (fun _ => ?_)
      refine ru_dup_x1 hX dX0_pattern_77 (fun _ => ?_)
      refine ru_iconst hX dX0_pattern_78 (fun _ => ?_)
      refine ru_iadd hX dX0_pattern_79 (fun _ => ?_)
      obtain ⟨k11, h⟩ := h
      refine ru_putI (id := 118) hX dX0_pattern_80 rfl ⟨by decide, by decide⟩ rfl k11 rfl (fun _ => ?_)
      exact ru_ireturn hX dX0_pattern_83 (Or.inl rfl) ⟨Nat.zero_le _, Nat.zero_le _⟩ (fun _ => h)
    · have q12 := q
      replace h := h.1 q12
      refine ru_bipush hX dX0_pattern_40 (by decide) (fun _ => ?_)
      exact ru_ireturn hX dX0_pattern_42 (Or.inl rfl) ⟨Nat.zero_le _, Nat.zero_le _⟩ (fun _ => h)
  · have q13 := q
    replace h := h.1 q13
    refine ru_iconst hX dX0_pattern_29 (fun _ => ?_)
    exact ru_ireturn hX dX0_pattern_30 (Or.inl rfl) ⟨Nat.zero_le _, Nat.zero_le _⟩ (fun _ => h)
theorem bX0_step_0 {cs ss : Nat → Option (Nat × eh_T)} {lim : Nat × Nat} {Rt : Option eh_V → eh_S → Prop} {X : eh_X} (hX : eh_Ru eh_nX eh_fl0 eh_kn0 cs ss lim Rt 0 cX0_step X) {T99 : eh_T} (hc99 : cs 99 = some (2, T99)) {σ : eh_S}  {a1 : Int} {a2 : Int} {a3 : Int} {a4 : Int} {a5 : Int} {a6 : Int} {o7 : Option eh_V}  (h : eh_ok σ → T99 [.inr (some (0, 0)), .inl a1] σ (0, 0) (fun r σ1 => X 5 [some (.inr (some (0, 0))), some (.inl a1), some (.inl a2), some (.inl a3), some (.inl a4), some (.inl a5), some (.inl a6), o7] (r.toList ++ []) σ1 (0, 0))) : X 0 [some (.inr (some (0, 0))), some (.inl a1), some (.inl a2), some (.inl a3), some (.inl a4), some (.inl a5), some (.inl a6), o7] [] σ (0, 0) := by
  refine ru_ok hX (fun hok => ?_)
  replace h := h hok
  refine ru_aload_n hX dX0_step_0 rfl (fun _ => ?_)
  refine ru_iload_n hX dX0_step_1 rfl (fun _ => ?_)
  exact ru_callV (as := [.inr (some (0, 0)), .inl a1]) (rest := []) hX dX0_step_2 hc99 rfl (Nat.le_of_ble_eq_true rfl) (0, 0) ⟨Nat.zero_le _, Nat.zero_le _⟩ h
theorem bX0_step_5 {cs ss : Nat → Option (Nat × eh_T)} {lim : Nat × Nat} {Rt : Option eh_V → eh_S → Prop} {X : eh_X} (hX : eh_Ru eh_nX eh_fl0 eh_kn0 cs ss lim Rt 0 cX0_step X) {T77 : eh_T} (hc77 : ss 77 = some (3, T77)) {σ : eh_S}  {a1 : Int} {a2 : Int} {a3 : Int} {a4 : Int} {a5 : Int} {a6 : Int} {o7 : Option eh_V} {s0 : Int}  (h : eh_ok σ → (-2147483648 ≤ s0 ∧ s0 < 2147483648) ∧ ((s0 = 0 → Rt (some (.inl (-1))) σ) ∧ (¬ s0 = 0 → T77 [.inl a2, .inl 0, .inl 3] σ (0, 0) (fun r σ1 => X 14 [some (.inr (some (0, 0))), some (.inl a1), some (.inl a2), some (.inl a3), some (.inl a4), some (.inl a5), some (.inl a6), o7] (r.toList ++ []) σ1 (0, 0))))) : X 5 [some (.inr (some (0, 0))), some (.inl a1), some (.inl a2), some (.inl a3), some (.inl a4), some (.inl a5), some (.inl a6), o7] [.inl s0] σ (0, 0) := by
  refine ru_ok hX (fun hok => ?_)
  replace h := h hok
  obtain ⟨k1, h⟩ := h
  refine ru_if_eq (tgt := 38) hX dX0_step_5 (by decide) k1 (fun q => ?_) (fun q => ?_)
  · have q2 := q
    replace h := h.1 q2
    refine ru_iconst hX dX0_step_38 (fun _ => ?_)
    exact ru_ireturn hX dX0_step_39 (Or.inl rfl) ⟨Nat.zero_le _, Nat.zero_le _⟩ (fun _ => h)
  · have q3 := q
    replace h := h.2 q3
    refine ru_iload_n hX dX0_step_8 rfl (fun _ => ?_)
    refine ru_iconst hX dX0_step_9 (fun _ => ?_)
    refine ru_iconst hX dX0_step_10 (fun _ => ?_)
    exact ru_callS (as := [.inl a2, .inl 0, .inl 3]) (rest := []) hX dX0_step_11 hc77 rfl (Nat.le_of_ble_eq_true rfl) (0, 0) ⟨Nat.zero_le _, Nat.zero_le _⟩ h
theorem bX0_step_14 {cs ss : Nat → Option (Nat × eh_T)} {lim : Nat × Nat} {Rt : Option eh_V → eh_S → Prop} {X : eh_X} (hX : eh_Ru eh_nX eh_fl0 eh_kn0 cs ss lim Rt 0 cX0_step X) {T77 : eh_T} (hc77 : ss 77 = some (3, T77)) {σ : eh_S}  {a1 : Int} {a2 : Int} {a3 : Int} {a4 : Int} {a5 : Int} {a6 : Int} {o7 : Option eh_V} {s0 : Int}  (h : eh_ok σ → (-2147483648 ≤ s0 ∧ s0 < 2147483648) ∧ ((s0 = 0 → Rt (some (.inl (-1))) σ) ∧ (¬ s0 = 0 → T77 [.inl a3, .inl 0, .inl 15] σ (0, 0) (fun r σ1 => X 24 [some (.inr (some (0, 0))), some (.inl a1), some (.inl a2), some (.inl a3), some (.inl a4), some (.inl a5), some (.inl a6), o7] (r.toList ++ []) σ1 (0, 0))))) : X 14 [some (.inr (some (0, 0))), some (.inl a1), some (.inl a2), some (.inl a3), some (.inl a4), some (.inl a5), some (.inl a6), o7] [.inl s0] σ (0, 0) := by
  refine ru_ok hX (fun hok => ?_)
  replace h := h hok
  obtain ⟨k1, h⟩ := h
  refine ru_if_eq (tgt := 38) hX dX0_step_14 (by decide) k1 (fun q => ?_) (fun q => ?_)
  · have q2 := q
    replace h := h.1 q2
    refine ru_iconst hX dX0_step_38 (fun _ => ?_)
    exact ru_ireturn hX dX0_step_39 (Or.inl rfl) ⟨Nat.zero_le _, Nat.zero_le _⟩ (fun _ => h)
  · have q3 := q
    replace h := h.2 q3
    refine ru_iload_n hX dX0_step_17 rfl (fun _ => ?_)
    refine ru_iconst hX dX0_step_18 (fun _ => ?_)
    refine ru_bipush hX dX0_step_19 (by decide) (fun _ => ?_)
    exact ru_callS (as := [.inl a3, .inl 0, .inl 15]) (rest := []) hX dX0_step_21 hc77 rfl (Nat.le_of_ble_eq_true rfl) (0, 0) ⟨Nat.zero_le _, Nat.zero_le _⟩ h
theorem bX0_step_24 {cs ss : Nat → Option (Nat × eh_T)} {lim : Nat × Nat} {Rt : Option eh_V → eh_S → Prop} {X : eh_X} (hX : eh_Ru eh_nX eh_fl0 eh_kn0 cs ss lim Rt 0 cX0_step X) {T77 : eh_T} (hc77 : ss 77 = some (3, T77)) {σ : eh_S}  {a1 : Int} {a2 : Int} {a3 : Int} {a4 : Int} {a5 : Int} {a6 : Int} {o7 : Option eh_V} {s0 : Int}  (h : eh_ok σ → (-2147483648 ≤ s0 ∧ s0 < 2147483648) ∧ ((s0 = 0 → Rt (some (.inl (-1))) σ) ∧ (¬ s0 = 0 → T77 [.inl a4, .inl 0, .inl 6] σ (0, 0) (fun r σ1 => X 35 [some (.inr (some (0, 0))), some (.inl a1), some (.inl a2), some (.inl a3), some (.inl a4), some (.inl a5), some (.inl a6), o7] (r.toList ++ []) σ1 (0, 0))))) : X 24 [some (.inr (some (0, 0))), some (.inl a1), some (.inl a2), some (.inl a3), some (.inl a4), some (.inl a5), some (.inl a6), o7] [.inl s0] σ (0, 0) := by
  refine ru_ok hX (fun hok => ?_)
  replace h := h hok
  obtain ⟨k1, h⟩ := h
  refine ru_if_eq (tgt := 38) hX dX0_step_24 (by decide) k1 (fun q => ?_) (fun q => ?_)
  · have q2 := q
    replace h := h.1 q2
    refine ru_iconst hX dX0_step_38 (fun _ => ?_)
    exact ru_ireturn hX dX0_step_39 (Or.inl rfl) ⟨Nat.zero_le _, Nat.zero_le _⟩ (fun _ => h)
  · have q3 := q
    replace h := h.2 q3
    refine ru_iload hX dX0_step_27 rfl (fun _ => ?_)
    refine ru_iconst hX dX0_step_29 (fun _ => ?_)
    refine ru_bipush hX dX0_step_30 (by decide) (fun _ => ?_)
    exact ru_callS (as := [.inl a4, .inl 0, .inl 6]) (rest := []) hX dX0_step_32 hc77 rfl (Nat.le_of_ble_eq_true rfl) (0, 0) ⟨Nat.zero_le _, Nat.zero_le _⟩ h
theorem bX0_step_35 {cs ss : Nat → Option (Nat × eh_T)} {lim : Nat × Nat} {Rt : Option eh_V → eh_S → Prop} {X : eh_X} (hX : eh_Ru eh_nX eh_fl0 eh_kn0 cs ss lim Rt 0 cX0_step X) {T77 : eh_T} (hc77 : ss 77 = some (3, T77)) {T103 : eh_T} (hc103 : ss 103 = some (2, T103)) {σ : eh_S}  {a1 : Int} {a2 : Int} {a3 : Int} {a4 : Int} {a5 : Int} {a6 : Int} {o7 : Option eh_V} {s0 : Int}  (h : eh_ok σ → (-2147483648 ≤ s0 ∧ s0 < 2147483648) ∧ ((s0 = 0 → Rt (some (.inl (-1))) σ) ∧ (¬ s0 = 0 → (0 ≤ a1 ∧ a1 < 8) ∧ (-2147483648 ≤ a4 ∧ a4 < 2147483648) ∧ ((a4 ≤ 0 → T103 [.inr (some (3, a1)), .inl a2] σ (0, 0) (fun r σ1 => X 110 [some (.inr (some (0, 0))), some (.inl a1), some (.inl a2), some (.inl a3), some (.inl a4), some (.inl a5), some (.inl a6), some (.inr (some (3, a1)))] (r.toList ++ []) σ1 (0, 0))) ∧ (¬ a4 ≤ 0 → T77 [.inl a5, .inl 0, .inl 3] σ (0, 0) (fun r σ1 => X 60 [some (.inr (some (0, 0))), some (.inl a1), some (.inl a2), some (.inl a3), some (.inl a4), some (.inl a5), some (.inl a6), some (.inr (some (3, a1)))] (r.toList ++ []) σ1 (0, 0))))))) : X 35 [some (.inr (some (0, 0))), some (.inl a1), some (.inl a2), some (.inl a3), some (.inl a4), some (.inl a5), some (.inl a6), o7] [.inl s0] σ (0, 0) := by
  refine ru_ok hX (fun hok => ?_)
  replace h := h hok
  obtain ⟨k1, h⟩ := h
  refine ru_if_ne (tgt := 40) hX dX0_step_35 (by decide) k1 (fun q => ?_) (fun q => ?_)
  · have q2 := q
    replace h := h.2 q2
    refine ru_aload_n hX dX0_step_40 rfl (fun _ => ?_)
    refine ru_get (v := .inr (some (117, 0))) hX dX0_step_41 rfl ⟨by decide, by decide⟩ rfl (fun _ => ?_)
    refine ru_iload_n hX dX0_step_44 rfl (fun _ => ?_)
    obtain ⟨k3, h⟩ := h
    refine ru_paload hX dX0_step_45 ⟨by decide, by decide⟩ k3 (fun _ => ?_)
    refine ru_astore (ls1 := [some (.inr (some (0, 0))), some (.inl a1), some (.inl a2), some (.inl a3), some (.inl a4), some (.inl a5), some (.inl a6), some (.inr (some (3, a1)))]) hX dX0_step_46 (Nat.le_of_ble_eq_true rfl) rfl (fun _ => ?_)
    refine ru_iload hX dX0_step_48 rfl (fun _ => ?_)
    obtain ⟨k4, h⟩ := h
    refine ru_if_le (tgt := 104) hX dX0_step_50 (by decide) k4 (fun q => ?_) (fun q => ?_)
    · have q5 := q
      replace h := h.1 q5
      refine ru_aload hX dX0_step_104 rfl (fun _ => ?_)
      refine ru_iload_n hX dX0_step_106 rfl (fun _ => ?_)
      exact ru_callS (as := [.inr (some (3, a1)), .inl a2]) (rest := []) hX dX0_step_107 hc103 rfl (Nat.le_of_ble_eq_true rfl) (0, 0) ⟨Nat.zero_le _, Nat.zero_le _⟩ h
    · have q6 := q
      replace h := h.2 q6
      refine ru_iload hX dX0_step_53 rfl (fun _ => ?_)
      refine ru_iconst hX dX0_step_55 (fun _ => ?_)
      refine ru_iconst hX dX0_step_56 (fun _ => ?_)
      exact ru_callS (as := [.inl a5, .inl 0, .inl 3]) (rest := []) hX dX0_step_57 hc77 rfl (Nat.le_of_ble_eq_true rfl) (0, 0) ⟨Nat.zero_le _, Nat.zero_le _⟩ h
  · have q7 := q
    replace h := h.1 q7
    refine ru_iconst hX dX0_step_38 (fun _ => ?_)
    exact ru_ireturn hX dX0_step_39 (Or.inl rfl) ⟨Nat.zero_le _, Nat.zero_le _⟩ (fun _ => h)
theorem bX0_step_60 {cs ss : Nat → Option (Nat × eh_T)} {lim : Nat × Nat} {Rt : Option eh_V → eh_S → Prop} {X : eh_X} (hX : eh_Ru eh_nX eh_fl0 eh_kn0 cs ss lim Rt 0 cX0_step X) {T77 : eh_T} (hc77 : ss 77 = some (3, T77)) {σ : eh_S}  {o1 : Option eh_V} {a2 : Int} {a3 : Int} {a4 : Int} {a5 : Int} {a6 : Int} {p7 : Int} {s0 : Int} (hp7 : 0 ≤ p7 ∧ p7 < 8) (h : eh_ok σ → (-2147483648 ≤ s0 ∧ s0 < 2147483648) ∧ ((s0 = 0 → Rt (some (.inl (-1))) σ) ∧ (¬ s0 = 0 → (-2147483648 ≤ a4 ∧ a4 < 2147483648) ∧ ((4 ≤ a4 → T77 [.inl a6, .inl 0, .inl ((σ.1 403 p7) - 1)] σ (0, 0) (fun r σ1 => X 99 [some (.inr (some (0, 0))), o1, some (.inl a2), some (.inl a3), some (.inl a4), some (.inl a5), some (.inl a6), some (.inr (some (3, p7)))] (r.toList ++ []) σ1 (0, 0))) ∧ (¬ 4 ≤ a4 → T77 [.inl a6, .inl (-1000), .inl 1000] σ (0, 0) (fun r σ1 => X 80 [some (.inr (some (0, 0))), o1, some (.inl a2), some (.inl a3), some (.inl a4), some (.inl a5), some (.inl a6), some (.inr (some (3, p7)))] (r.toList ++ []) σ1 (0, 0))))))) : X 60 [some (.inr (some (0, 0))), o1, some (.inl a2), some (.inl a3), some (.inl a4), some (.inl a5), some (.inl a6), some (.inr (some (3, p7)))] [.inl s0] σ (0, 0) := by
  refine ru_ok hX (fun hok => ?_)
  replace h := h hok
  obtain ⟨k1, h⟩ := h
  refine ru_if_eq (tgt := 102) hX dX0_step_60 (by decide) k1 (fun q => ?_) (fun q => ?_)
  · have q2 := q
    replace h := h.1 q2
    refine ru_iconst hX dX0_step_102 (fun _ => ?_)
    exact ru_ireturn hX dX0_step_103 (Or.inl rfl) ⟨Nat.zero_le _, Nat.zero_le _⟩ (fun _ => h)
  · have q3 := q
    replace h := h.2 q3
    refine ru_iload hX dX0_step_63 rfl (fun _ => ?_)
    refine ru_iconst hX dX0_step_65 (fun _ => ?_)
    obtain ⟨k4, h⟩ := h
    refine ru_icmp_ge (tgt := 86) hX dX0_step_66 (by decide) k4 (by unfold eh_r; decide) (fun q => ?_) (fun q => ?_)
    · have q5 := q
      replace h := h.1 q5
      refine ru_iload hX dX0_step_86 rfl (fun _ => ?_)
      refine ru_iconst hX dX0_step_88 (fun _ => ?_)
      refine ru_aload hX dX0_step_89 rfl (fun _ => ?_)
      refine ru_get (v := .inl (σ.1 403 p7)) hX dX0_step_91 rfl hp7 rfl (fun _ => ?_)
      refine ru_iconst hX dX0_step_94 (fun _ => ?_)
      refine ru_isub hX dX0_step_95 (fun _ => ?_)
      exact ru_callS (as := [.inl a6, .inl 0, .inl ((σ.1 403 p7) - 1)]) (rest := []) hX dX0_step_96 hc77 rfl (Nat.le_of_ble_eq_true rfl) (0, 0) ⟨Nat.zero_le _, Nat.zero_le _⟩ h
    · have q6 := q
      replace h := h.2 q6
      refine ru_iload hX dX0_step_69 rfl (fun _ => ?_)
      refine ru_sipush hX dX0_step_71 (by decide) (fun _ => ?_)
      refine ru_sipush hX dX0_step_74 (by decide) (fun _ => ?_)
      exact ru_callS (as := [.inl a6, .inl (-1000), .inl 1000]) (rest := []) hX dX0_step_77 hc77 rfl (Nat.le_of_ble_eq_true rfl) (0, 0) ⟨Nat.zero_le _, Nat.zero_le _⟩ h
theorem bX0_step_80 {cs ss : Nat → Option (Nat × eh_T)} {lim : Nat × Nat} {Rt : Option eh_V → eh_S → Prop} {X : eh_X} (hX : eh_Ru eh_nX eh_fl0 eh_kn0 cs ss lim Rt 0 cX0_step X) {T103 : eh_T} (hc103 : ss 103 = some (2, T103)) {σ : eh_S}  {o1 : Option eh_V} {a2 : Int} {a3 : Int} {a4 : Int} {a5 : Int} {a6 : Int} {p7 : Int} {s0 : Int} (hp7 : 0 ≤ p7 ∧ p7 < 8) (h : eh_ok σ → (-2147483648 ≤ s0 ∧ s0 < 2147483648) ∧ ((s0 = 0 → Rt (some (.inl (-1))) σ) ∧ (¬ s0 = 0 → T103 [.inr (some (3, p7)), .inl a2] σ (0, 0) (fun r σ1 => X 110 [some (.inr (some (0, 0))), o1, some (.inl a2), some (.inl a3), some (.inl a4), some (.inl a5), some (.inl a6), some (.inr (some (3, p7)))] (r.toList ++ []) σ1 (0, 0))))) : X 80 [some (.inr (some (0, 0))), o1, some (.inl a2), some (.inl a3), some (.inl a4), some (.inl a5), some (.inl a6), some (.inr (some (3, p7)))] [.inl s0] σ (0, 0) := by
  refine ru_ok hX (fun hok => ?_)
  replace h := h hok
  obtain ⟨k1, h⟩ := h
  refine ru_if_eq (tgt := 102) hX dX0_step_80 (by decide) k1 (fun q => ?_) (fun q => ?_)
  · have q2 := q
    replace h := h.1 q2
    refine ru_iconst hX dX0_step_102 (fun _ => ?_)
    exact ru_ireturn hX dX0_step_103 (Or.inl rfl) ⟨Nat.zero_le _, Nat.zero_le _⟩ (fun _ => h)
  · have q3 := q
    replace h := h.2 q3
    refine ru_goto (tgt := 104) hX dX0_step_83 (by decide) ?_
    refine ru_aload hX dX0_step_104 rfl (fun _ => ?_)
    refine ru_iload_n hX dX0_step_106 rfl (fun _ => ?_)
    exact ru_callS (as := [.inr (some (3, p7)), .inl a2]) (rest := []) hX dX0_step_107 hc103 rfl (Nat.le_of_ble_eq_true rfl) (0, 0) ⟨Nat.zero_le _, Nat.zero_le _⟩ h
theorem bX0_step_99 {cs ss : Nat → Option (Nat × eh_T)} {lim : Nat × Nat} {Rt : Option eh_V → eh_S → Prop} {X : eh_X} (hX : eh_Ru eh_nX eh_fl0 eh_kn0 cs ss lim Rt 0 cX0_step X) {T103 : eh_T} (hc103 : ss 103 = some (2, T103)) {σ : eh_S}  {o1 : Option eh_V} {a2 : Int} {a3 : Int} {a4 : Int} {a5 : Int} {a6 : Int} {p7 : Int} {s0 : Int} (hp7 : 0 ≤ p7 ∧ p7 < 8) (h : eh_ok σ → (-2147483648 ≤ s0 ∧ s0 < 2147483648) ∧ ((s0 = 0 → Rt (some (.inl (-1))) σ) ∧ (¬ s0 = 0 → T103 [.inr (some (3, p7)), .inl a2] σ (0, 0) (fun r σ1 => X 110 [some (.inr (some (0, 0))), o1, some (.inl a2), some (.inl a3), some (.inl a4), some (.inl a5), some (.inl a6), some (.inr (some (3, p7)))] (r.toList ++ []) σ1 (0, 0))))) : X 99 [some (.inr (some (0, 0))), o1, some (.inl a2), some (.inl a3), some (.inl a4), some (.inl a5), some (.inl a6), some (.inr (some (3, p7)))] [.inl s0] σ (0, 0) := by
  refine ru_ok hX (fun hok => ?_)
  replace h := h hok
  obtain ⟨k1, h⟩ := h
  refine ru_if_ne (tgt := 104) hX dX0_step_99 (by decide) k1 (fun q => ?_) (fun q => ?_)
  · have q2 := q
    replace h := h.2 q2
    refine ru_aload hX dX0_step_104 rfl (fun _ => ?_)
    refine ru_iload_n hX dX0_step_106 rfl (fun _ => ?_)
    exact ru_callS (as := [.inr (some (3, p7)), .inl a2]) (rest := []) hX dX0_step_107 hc103 rfl (Nat.le_of_ble_eq_true rfl) (0, 0) ⟨Nat.zero_le _, Nat.zero_le _⟩ h
  · have q3 := q
    replace h := h.1 q3
    refine ru_iconst hX dX0_step_102 (fun _ => ?_)
    exact ru_ireturn hX dX0_step_103 (Or.inl rfl) ⟨Nat.zero_le _, Nat.zero_le _⟩ (fun _ => h)
theorem bX0_step_110 {cs ss : Nat → Option (Nat × eh_T)} {lim : Nat × Nat} {Rt : Option eh_V → eh_S → Prop} {X : eh_X} (hX : eh_Ru eh_nX eh_fl0 eh_kn0 cs ss lim Rt 0 cX0_step X)  {σ : eh_S}  {o1 : Option eh_V} {a2 : Int} {a3 : Int} {a4 : Int} {a5 : Int} {a6 : Int} {p7 : Int} {s0 : Int} (hp7 : 0 ≤ p7 ∧ p7 < 8) (h : eh_ok σ → (-2147483648 ≤ s0 ∧ s0 < 2147483648) ∧ ((s0 = 0 → Rt (some (.inl (-1))) σ) ∧ (¬ s0 = 0 → ((σ.1 409 p7 = 0 → ((σ.1 403 p7 = 6 → Rt (some (.inl (-4))) σ) ∧ (¬ σ.1 403 p7 = 6 → ((σ.1 403 p7 = 0 → (0 ≤ σ.1 403 p7 ∧ σ.1 403 p7 < 6) ∧ (-2147483648 ≤ a2 ∧ a2 < 2147483648) ∧ (-2147483648 ≤ a3 ∧ a3 < 2147483648) ∧ (-2147483648 ≤ a4 ∧ a4 < 2147483648) ∧ ((a4 ≤ 0 → (-2147483648 ≤ (σ.1 403 p7) + 1 ∧ (σ.1 403 p7) + 1 < 2147483648) ∧ Rt (some (.inl (σ.1 403 p7))) (eh_sV (eh_sA (eh_sA (eh_sA (eh_sA (eh_sA (eh_sV σ 411 p7 (σ.1 105 0)) 404 p7 (σ.1 403 p7) a2) 405 p7 (σ.1 403 p7) a3) 406 p7 (σ.1 403 p7) a4) 407 p7 (σ.1 403 p7) 0) 408 p7 (σ.1 403 p7) 0) 403 p7 ((σ.1 403 p7) + 1))) ∧ (¬ a4 ≤ 0 → (-2147483648 ≤ a5 ∧ a5 < 2147483648) ∧ (-2147483648 ≤ a6 ∧ a6 < 2147483648) ∧ (-2147483648 ≤ (σ.1 403 p7) + 1 ∧ (σ.1 403 p7) + 1 < 2147483648) ∧ Rt (some (.inl (σ.1 403 p7))) (eh_sV (eh_sA (eh_sA (eh_sA (eh_sA (eh_sA (eh_sV σ 411 p7 (σ.1 105 0)) 404 p7 (σ.1 403 p7) a2) 405 p7 (σ.1 403 p7) a3) 406 p7 (σ.1 403 p7) a4) 407 p7 (σ.1 403 p7) a5) 408 p7 (σ.1 403 p7) a6) 403 p7 ((σ.1 403 p7) + 1))))) ∧ (¬ σ.1 403 p7 = 0 → (0 ≤ σ.1 403 p7 ∧ σ.1 403 p7 < 6) ∧ (-2147483648 ≤ a2 ∧ a2 < 2147483648) ∧ (-2147483648 ≤ a3 ∧ a3 < 2147483648) ∧ (-2147483648 ≤ a4 ∧ a4 < 2147483648) ∧ ((a4 ≤ 0 → (-2147483648 ≤ (σ.1 403 p7) + 1 ∧ (σ.1 403 p7) + 1 < 2147483648) ∧ Rt (some (.inl (σ.1 403 p7))) (eh_sV (eh_sA (eh_sA (eh_sA (eh_sA (eh_sA σ 404 p7 (σ.1 403 p7) a2) 405 p7 (σ.1 403 p7) a3) 406 p7 (σ.1 403 p7) a4) 407 p7 (σ.1 403 p7) 0) 408 p7 (σ.1 403 p7) 0) 403 p7 ((σ.1 403 p7) + 1))) ∧ (¬ a4 ≤ 0 → (-2147483648 ≤ a5 ∧ a5 < 2147483648) ∧ (-2147483648 ≤ a6 ∧ a6 < 2147483648) ∧ (-2147483648 ≤ (σ.1 403 p7) + 1 ∧ (σ.1 403 p7) + 1 < 2147483648) ∧ Rt (some (.inl (σ.1 403 p7))) (eh_sV (eh_sA (eh_sA (eh_sA (eh_sA (eh_sA σ 404 p7 (σ.1 403 p7) a2) 405 p7 (σ.1 403 p7) a3) 406 p7 (σ.1 403 p7) a4) 407 p7 (σ.1 403 p7) a5) 408 p7 (σ.1 403 p7) a6) 403 p7 ((σ.1 403 p7) + 1))))))))) ∧ (¬ σ.1 409 p7 = 0 → Rt (some (.inl (-3))) σ))))) : X 110 [some (.inr (some (0, 0))), o1, some (.inl a2), some (.inl a3), some (.inl a4), some (.inl a5), some (.inl a6), some (.inr (some (3, p7)))] [.inl s0] σ (0, 0) := by
  refine ru_ok hX (fun hok => ?_)
  replace h := h hok
  obtain ⟨k1, h⟩ := h
  refine ru_if_ne (tgt := 115) hX dX0_step_110 (by decide) k1 (fun q => ?_) (fun q => ?_)
  · have q2 := q
    replace h := h.2 q2
    refine ru_aload hX dX0_step_115 rfl (fun _ => ?_)
    refine ru_get (v := .inl (σ.1 409 p7)) hX dX0_step_117 rfl hp7 rfl (fun _ => ?_)
    refine ru_if_eq (tgt := 126) hX dX0_step_120 (by decide) (hok.1 _ _) (fun q => ?_) (fun q => ?_)
    · have q3 := q
      replace h := h.1 q3
      refine ru_aload hX dX0_step_126 rfl (fun _ => ?_)
      refine ru_get (v := .inl (σ.1 403 p7)) hX dX0_step_128 rfl hp7 rfl (fun _ => ?_)
      refine ru_bipush hX dX0_step_131 (by decide) (fun _ => ?_)
      refine ru_icmp_ne (tgt := 139) hX dX0_step_133 (by decide) (hok.1 _ _) (by unfold eh_r; decide) (fun q => ?_) (fun q => ?_)
      · have q4 := q
        replace h := h.2 q4
        refine ru_aload hX dX0_step_139 rfl (fun _ => ?_)
        refine ru_get (v := .inl (σ.1 403 p7)) hX dX0_step_141 rfl hp7 rfl (fun _ => ?_)
        refine ru_if_ne (tgt := 156) hX dX0_step_144 (by decide) (hok.1 _ _) (fun q => ?_) (fun q => ?_)
        · have q5 := q
          replace h := h.2 q5
          refine ru_aload hX dX0_step_156 rfl (fun _ => ?_)
          refine ru_get (v := .inr (some (404, p7))) hX dX0_step_158 rfl hp7 rfl (fun _ => ?_)
          refine ru_aload hX dX0_step_161 rfl (fun _ => ?_)
          refine ru_get (v := .inl (σ.1 403 p7)) hX dX0_step_163 rfl hp7 rfl (fun _ => ?_)
          refine ru_iload_n hX dX0_step_166 rfl (fun _ => ?_)
          obtain ⟨k6, h⟩ := h
          obtain ⟨k7, h⟩ := h
          refine ru_iastore hX dX0_step_167 hp7 rfl k6 k7 (fun _ => ?_)
          refine ru_aload hX dX0_step_168 rfl (fun hok8 => ?_)
          refine ru_get (v := .inr (some (405, p7))) hX dX0_step_170 rfl hp7 rfl (fun _ => ?_)
          refine ru_aload hX dX0_step_173 rfl (fun _ => ?_)
          refine ru_get (v := .inl (σ.1 403 p7)) hX dX0_step_175 rfl hp7 rfl (fun _ => ?_)
          refine ru_iload_n hX dX0_step_178 rfl (fun _ => ?_)
          obtain ⟨k9, h⟩ := h
          refine ru_iastore hX dX0_step_179 hp7 rfl k6 k9 (fun _ => ?_)
          refine ru_aload hX dX0_step_180 rfl (fun hok10 => ?_)
          refine ru_get (v := .inr (some (406, p7))) hX dX0_step_182 rfl hp7 rfl (fun _ => ?_)
          refine ru_aload hX dX0_step_185 rfl (fun _ => ?_)
          refine ru_get (v := .inl (σ.1 403 p7)) hX dX0_step_187 rfl hp7 rfl (fun _ => ?_)
          refine ru_iload hX dX0_step_190 rfl (fun _ => ?_)
          obtain ⟨k11, h⟩ := h
          refine ru_iastore hX dX0_step_192 hp7 rfl k6 k11 (fun _ => ?_)
          refine ru_aload hX dX0_step_193 rfl (fun hok12 => ?_)
          refine ru_get (v := .inr (some (407, p7))) hX dX0_step_195 rfl hp7 rfl (fun _ => ?_)
          refine ru_aload hX dX0_step_198 rfl (fun _ => ?_)
          refine ru_get (v := .inl (σ.1 403 p7)) hX dX0_step_200 rfl hp7 rfl (fun _ => ?_)
          refine ru_iload hX dX0_step_203 rfl (fun _ => ?_)
          refine ru_if_le (tgt := 213) hX dX0_step_205 (by decide) k11 (fun q => ?_) (fun q => ?_)
          · have q13 := q
            replace h := h.1 q13
            refine ru_iconst hX dX0_step_213 (fun _ => ?_)
            refine ru_iastore hX dX0_step_214 hp7 rfl k6 (by unfold eh_r; decide) (fun _ => ?_)
            refine ru_aload hX dX0_step_215 rfl (fun hok14 => ?_)
            refine ru_get (v := .inr (some (408, p7))) hX dX0_step_217 rfl hp7 rfl (fun _ => ?_)
            refine ru_aload hX dX0_step_220 rfl (fun _ => ?_)
            refine ru_get (v := .inl (σ.1 403 p7)) hX dX0_step_222 rfl hp7 rfl (fun _ => ?_)
            refine ru_iload hX dX0_step_225 rfl (fun _ => ?_)
            refine ru_if_le (tgt := 235) hX dX0_step_227 (by decide) k11 (fun q => ?_) (fun q => ?_)
            rotate_left
            · exact absurd q13 q
            clear q
            refine ru_iconst hX dX0_step_235 (fun _ => ?_)
            refine ru_iastore hX dX0_step_236 hp7 rfl k6 (by unfold eh_r; decide) (fun _ => ?_)
            refine ru_aload hX dX0_step_237 rfl (fun hok15 => ?_)
            refine ru_dup hX dX0_step_239 (fun _ => ?_)
            refine ru_get (v := .inl (σ.1 403 p7)) hX dX0_step_240 rfl hp7 rfl (fun _ => ?_)
            refine ru_dup_x1 hX dX0_step_243 (fun _ => ?_)
            refine ru_iconst hX dX0_step_244 (fun _ => ?_)
            refine ru_iadd hX dX0_step_245 (fun _ => ?_)
            obtain ⟨k16, h⟩ := h
            refine ru_putI (id := 403) hX dX0_step_246 rfl hp7 rfl k16 rfl (fun _ => ?_)
            exact ru_ireturn hX dX0_step_249 (Or.inl rfl) ⟨Nat.zero_le _, Nat.zero_le _⟩ (fun _ => h)
          · have q17 := q
            replace h := h.2 q17
            refine ru_iload hX dX0_step_208 rfl (fun _ => ?_)
            refine ru_goto (tgt := 214) hX dX0_step_210 (by decide) ?_
            obtain ⟨k18, h⟩ := h
            refine ru_iastore hX dX0_step_214 hp7 rfl k6 k18 (fun _ => ?_)
            refine ru_aload hX dX0_step_215 rfl (fun hok19 => ?_)
            refine ru_get (v := .inr (some (408, p7))) hX dX0_step_217 rfl hp7 rfl (fun _ => ?_)
            refine ru_aload hX dX0_step_220 rfl (fun _ => ?_)
            refine ru_get (v := .inl (σ.1 403 p7)) hX dX0_step_222 rfl hp7 rfl (fun _ => ?_)
            refine ru_iload hX dX0_step_225 rfl (fun _ => ?_)
            refine ru_if_le (tgt := 235) hX dX0_step_227 (by decide) k11 (fun q => ?_) (fun q => ?_)
            · exact absurd q q17
            clear q
            refine ru_iload hX dX0_step_230 rfl (fun _ => ?_)
            refine ru_goto (tgt := 236) hX dX0_step_232 (by decide) ?_
            obtain ⟨k20, h⟩ := h
            refine ru_iastore hX dX0_step_236 hp7 rfl k6 k20 (fun _ => ?_)
            refine ru_aload hX dX0_step_237 rfl (fun hok21 => ?_)
            refine ru_dup hX dX0_step_239 (fun _ => ?_)
            refine ru_get (v := .inl (σ.1 403 p7)) hX dX0_step_240 rfl hp7 rfl (fun _ => ?_)
            refine ru_dup_x1 hX dX0_step_243 (fun _ => ?_)
            refine ru_iconst hX dX0_step_244 (fun _ => ?_)
            refine ru_iadd hX dX0_step_245 (fun _ => ?_)
            obtain ⟨k22, h⟩ := h
            refine ru_putI (id := 403) hX dX0_step_246 rfl hp7 rfl k22 rfl (fun _ => ?_)
            exact ru_ireturn hX dX0_step_249 (Or.inl rfl) ⟨Nat.zero_le _, Nat.zero_le _⟩ (fun _ => h)
        · have q23 := q
          replace h := h.1 q23
          refine ru_aload hX dX0_step_147 rfl (fun _ => ?_)
          refine ru_aload_n hX dX0_step_149 rfl (fun _ => ?_)
          refine ru_get (v := .inl (σ.1 105 0)) hX dX0_step_150 rfl ⟨by decide, by decide⟩ rfl (fun _ => ?_)
          refine ru_putI (id := 411) hX dX0_step_153 rfl hp7 rfl (hok.1 _ _) rfl (fun _ => ?_)
          refine ru_aload hX dX0_step_156 rfl (fun hok24 => ?_)
          refine ru_get (v := .inr (some (404, p7))) hX dX0_step_158 rfl hp7 rfl (fun _ => ?_)
          refine ru_aload hX dX0_step_161 rfl (fun _ => ?_)
          refine ru_get (v := .inl (σ.1 403 p7)) hX dX0_step_163 rfl hp7 rfl (fun _ => ?_)
          refine ru_iload_n hX dX0_step_166 rfl (fun _ => ?_)
          obtain ⟨k25, h⟩ := h
          obtain ⟨k26, h⟩ := h
          refine ru_iastore hX dX0_step_167 hp7 rfl k25 k26 (fun _ => ?_)
          refine ru_aload hX dX0_step_168 rfl (fun hok27 => ?_)
          refine ru_get (v := .inr (some (405, p7))) hX dX0_step_170 rfl hp7 rfl (fun _ => ?_)
          refine ru_aload hX dX0_step_173 rfl (fun _ => ?_)
          refine ru_get (v := .inl (σ.1 403 p7)) hX dX0_step_175 rfl hp7 rfl (fun _ => ?_)
          refine ru_iload_n hX dX0_step_178 rfl (fun _ => ?_)
          obtain ⟨k28, h⟩ := h
          refine ru_iastore hX dX0_step_179 hp7 rfl k25 k28 (fun _ => ?_)
          refine ru_aload hX dX0_step_180 rfl (fun hok29 => ?_)
          refine ru_get (v := .inr (some (406, p7))) hX dX0_step_182 rfl hp7 rfl (fun _ => ?_)
          refine ru_aload hX dX0_step_185 rfl (fun _ => ?_)
          refine ru_get (v := .inl (σ.1 403 p7)) hX dX0_step_187 rfl hp7 rfl (fun _ => ?_)
          refine ru_iload hX dX0_step_190 rfl (fun _ => ?_)
          obtain ⟨k30, h⟩ := h
          refine ru_iastore hX dX0_step_192 hp7 rfl k25 k30 (fun _ => ?_)
          refine ru_aload hX dX0_step_193 rfl (fun hok31 => ?_)
          refine ru_get (v := .inr (some (407, p7))) hX dX0_step_195 rfl hp7 rfl (fun _ => ?_)
          refine ru_aload hX dX0_step_198 rfl (fun _ => ?_)
          refine ru_get (v := .inl (σ.1 403 p7)) hX dX0_step_200 rfl hp7 rfl (fun _ => ?_)
          refine ru_iload hX dX0_step_203 rfl (fun _ => ?_)
          refine ru_if_le (tgt := 213) hX dX0_step_205 (by decide) k30 (fun q => ?_) (fun q => ?_)
          · have q32 := q
            replace h := h.1 q32
            refine ru_iconst hX dX0_step_213 (fun _ => ?_)
            refine ru_iastore hX dX0_step_214 hp7 rfl k25 (by unfold eh_r; decide) (fun _ => ?_)
            refine ru_aload hX dX0_step_215 rfl (fun hok33 => ?_)
            refine ru_get (v := .inr (some (408, p7))) hX dX0_step_217 rfl hp7 rfl (fun _ => ?_)
            refine ru_aload hX dX0_step_220 rfl (fun _ => ?_)
            refine ru_get (v := .inl (σ.1 403 p7)) hX dX0_step_222 rfl hp7 rfl (fun _ => ?_)
            refine ru_iload hX dX0_step_225 rfl (fun _ => ?_)
            refine ru_if_le (tgt := 235) hX dX0_step_227 (by decide) k30 (fun q => ?_) (fun q => ?_)
            rotate_left
            · exact absurd q32 q
            clear q
            refine ru_iconst hX dX0_step_235 (fun _ => ?_)
            refine ru_iastore hX dX0_step_236 hp7 rfl k25 (by unfold eh_r; decide) (fun _ => ?_)
            refine ru_aload hX dX0_step_237 rfl (fun hok34 => ?_)
            refine ru_dup hX dX0_step_239 (fun _ => ?_)
            refine ru_get (v := .inl (σ.1 403 p7)) hX dX0_step_240 rfl hp7 rfl (fun _ => ?_)
            refine ru_dup_x1 hX dX0_step_243 (fun _ => ?_)
            refine ru_iconst hX dX0_step_244 (fun _ => ?_)
            refine ru_iadd hX dX0_step_245 (fun _ => ?_)
            obtain ⟨k35, h⟩ := h
            refine ru_putI (id := 403) hX dX0_step_246 rfl hp7 rfl k35 rfl (fun _ => ?_)
            exact ru_ireturn hX dX0_step_249 (Or.inl rfl) ⟨Nat.zero_le _, Nat.zero_le _⟩ (fun _ => h)
          · have q36 := q
            replace h := h.2 q36
            refine ru_iload hX dX0_step_208 rfl (fun _ => ?_)
            refine ru_goto (tgt := 214) hX dX0_step_210 (by decide) ?_
            obtain ⟨k37, h⟩ := h
            refine ru_iastore hX dX0_step_214 hp7 rfl k25 k37 (fun _ => ?_)
            refine ru_aload hX dX0_step_215 rfl (fun hok38 => ?_)
            refine ru_get (v := .inr (some (408, p7))) hX dX0_step_217 rfl hp7 rfl (fun _ => ?_)
            refine ru_aload hX dX0_step_220 rfl (fun _ => ?_)
            refine ru_get (v := .inl (σ.1 403 p7)) hX dX0_step_222 rfl hp7 rfl (fun _ => ?_)
            refine ru_iload hX dX0_step_225 rfl (fun _ => ?_)
            refine ru_if_le (tgt := 235) hX dX0_step_227 (by decide) k30 (fun q => ?_) (fun q => ?_)
            · exact absurd q q36
            clear q
            refine ru_iload hX dX0_step_230 rfl (fun _ => ?_)
            refine ru_goto (tgt := 236) hX dX0_step_232 (by decide) ?_
            obtain ⟨k39, h⟩ := h
            refine ru_iastore hX dX0_step_236 hp7 rfl k25 k39 (fun _ => ?_)
            refine ru_aload hX dX0_step_237 rfl (fun hok40 => ?_)
            refine ru_dup hX dX0_step_239 (fun _ => ?_)
            refine ru_get (v := .inl (σ.1 403 p7)) hX dX0_step_240 rfl hp7 rfl (fun _ => ?_)
            refine ru_dup_x1 hX dX0_step_243 (fun _ => ?_)
            refine ru_iconst hX dX0_step_244 (fun _ => ?_)
            refine ru_iadd hX dX0_step_245 (fun _ => ?_)
            obtain ⟨k41, h⟩ := h
            refine ru_putI (id := 403) hX dX0_step_246 rfl hp7 rfl k41 rfl (fun _ => ?_)
            exact ru_ireturn hX dX0_step_249 (Or.inl rfl) ⟨Nat.zero_le _, Nat.zero_le _⟩ (fun _ => h)
      · have q42 := q
        replace h := h.1 q42
        refine ru_bipush hX dX0_step_136 (by decide) (fun _ => ?_)
        exact ru_ireturn hX dX0_step_138 (Or.inl rfl) ⟨Nat.zero_le _, Nat.zero_le _⟩ (fun _ => h)
    · have q43 := q
      replace h := h.2 q43
      refine ru_bipush hX dX0_step_123 (by decide) (fun _ => ?_)
      exact ru_ireturn hX dX0_step_125 (Or.inl rfl) ⟨Nat.zero_le _, Nat.zero_le _⟩ (fun _ => h)
  · have q44 := q
    replace h := h.1 q44
    refine ru_iconst hX dX0_step_113 (fun _ => ?_)
    exact ru_ireturn hX dX0_step_114 (Or.inl rfl) ⟨Nat.zero_le _, Nat.zero_le _⟩ (fun _ => h)
theorem bX0_isPattern_0 {cs ss : Nat → Option (Nat × eh_T)} {lim : Nat × Nat} {Rt : Option eh_V → eh_S → Prop} {X : eh_X} (hX : eh_Ru eh_nX eh_fl0 eh_kn0 cs ss lim Rt 1 cX0_isPattern X) {T77 : eh_T} (hc77 : ss 77 = some (3, T77)) {σ : eh_S}  {a1 : Int}  (h : eh_ok σ → T77 [.inl a1, .inl 0, .inl ((σ.1 118 0) - 1)] σ (0, 0) (fun r σ1 => X 11 [some (.inr (some (0, 0))), some (.inl a1)] (r.toList ++ []) σ1 (0, 0))) : X 0 [some (.inr (some (0, 0))), some (.inl a1)] [] σ (0, 0) := by
  refine ru_ok hX (fun hok => ?_)
  replace h := h hok
  refine ru_iload_n hX dX0_isPattern_0 rfl (fun _ => ?_)
  refine ru_iconst hX dX0_isPattern_1 (fun _ => ?_)
  refine ru_aload_n hX dX0_isPattern_2 rfl (fun _ => ?_)
  refine ru_get (v := .inl (σ.1 118 0)) hX dX0_isPattern_3 rfl ⟨by decide, by decide⟩ rfl (fun _ => ?_)
  refine ru_iconst hX dX0_isPattern_6 (fun _ => ?_)
  refine ru_isub hX dX0_isPattern_7 (fun _ => ?_)
  exact ru_callS (as := [.inl a1, .inl 0, .inl ((σ.1 118 0) - 1)]) (rest := []) hX dX0_isPattern_8 hc77 rfl (Nat.le_of_ble_eq_true rfl) (0, 0) ⟨Nat.zero_le _, Nat.zero_le _⟩ h
theorem bX0_isPattern_11 {cs ss : Nat → Option (Nat × eh_T)} {lim : Nat × Nat} {Rt : Option eh_V → eh_S → Prop} {X : eh_X} (hX : eh_Ru eh_nX eh_fl0 eh_kn0 cs ss lim Rt 1 cX0_isPattern X)  {σ : eh_S}  {o0 : Option eh_V} {o1 : Option eh_V} {s0 : Int}  (h : eh_ok σ → (s0 = 0 ∨ s0 = 1) ∧ Rt (some (.inl s0)) σ) : X 11 [o0, o1] [.inl s0] σ (0, 0) := by
  refine ru_ok hX (fun hok => ?_)
  replace h := h hok
  obtain ⟨k1, h⟩ := h
  exact ru_ireturn hX dX0_isPattern_11 (Or.inr ⟨rfl, k1⟩) ⟨Nat.zero_le _, Nat.zero_le _⟩ (fun _ => h)
theorem bX0_mayStand_0 {cs ss : Nat → Option (Nat × eh_T)} {lim : Nat × Nat} {Rt : Option eh_V → eh_S → Prop} {X : eh_X} (hX : eh_Ru eh_nX eh_fl0 eh_kn0 cs ss lim Rt 1 cX0_mayStand X)  {σ : eh_S}  {p0 : Int} {a1 : Int} {o2 : Option eh_V} (hp0 : 0 ≤ p0 ∧ p0 < 8) (h : eh_ok σ → ((σ.1 403 p0 = 0 → (-2147483648 ≤ a1 ∧ a1 < 2147483648) ∧ ((a1 = 0 → Rt (some (.inl 1)) σ) ∧ (¬ a1 = 0 → ((a1 = 1 → Rt (some (.inl 1)) σ) ∧ (¬ a1 = 1 → Rt (some (.inl 0)) σ))))) ∧ (¬ σ.1 403 p0 = 0 → (0 ≤ (σ.1 403 p0) - 1 ∧ (σ.1 403 p0) - 1 < 6) ∧ (-2147483648 ≤ a1 ∧ a1 < 2147483648) ∧ ((a1 = 3 → ((σ.2 404 p0 ((σ.1 403 p0) - 1) = 0 → Rt (some (.inl 1)) σ) ∧ (¬ σ.2 404 p0 ((σ.1 403 p0) - 1) = 0 → ((σ.2 404 p0 ((σ.1 403 p0) - 1) = 1 → Rt (some (.inl 1)) σ) ∧ (¬ σ.2 404 p0 ((σ.1 403 p0) - 1) = 1 → Rt (some (.inl 0)) σ))))) ∧ (¬ a1 = 3 → ((a1 = 2 → ((σ.2 404 p0 ((σ.1 403 p0) - 1) = 3 → Rt (some (.inl 0)) σ) ∧ (¬ σ.2 404 p0 ((σ.1 403 p0) - 1) = 3 → Rt (some (.inl 1)) σ))) ∧ (¬ a1 = 2 → Rt (some (.inl 1)) σ))))))) : X 0 [some (.inr (some (3, p0))), some (.inl a1), o2] [] σ (0, 0) := by
  refine ru_ok hX (fun hok => ?_)
  replace h := h hok
  refine ru_aload_n hX dX0_mayStand_0 rfl (fun _ => ?_)
  refine ru_get (v := .inl (σ.1 403 p0)) hX dX0_mayStand_1 rfl hp0 rfl (fun _ => ?_)
  refine ru_if_ne (tgt := 22) hX dX0_mayStand_4 (by decide) (hok.1 _ _) (fun q => ?_) (fun q => ?_)
  · have q1 := q
    replace h := h.2 q1
    refine ru_aload_n hX dX0_mayStand_22 rfl (fun _ => ?_)
    refine ru_get (v := .inr (some (404, p0))) hX dX0_mayStand_23 rfl hp0 rfl (fun _ => ?_)
    refine ru_aload_n hX dX0_mayStand_26 rfl (fun _ => ?_)
    refine ru_get (v := .inl (σ.1 403 p0)) hX dX0_mayStand_27 rfl hp0 rfl (fun _ => ?_)
    refine ru_iconst hX dX0_mayStand_30 (fun _ => ?_)
    refine ru_isub hX dX0_mayStand_31 (fun _ => ?_)
    obtain ⟨k2, h⟩ := h
    refine ru_iaload hX dX0_mayStand_32 hp0 rfl k2 (fun _ => ?_)
    refine ru_istore_n (ls1 := [some (.inr (some (3, p0))), some (.inl a1), some (.inl (σ.2 404 p0 ((σ.1 403 p0) - 1)))]) hX dX0_mayStand_33 (Nat.le_of_ble_eq_true rfl) rfl (fun _ => ?_)
    refine ru_iload_n hX dX0_mayStand_34 rfl (fun _ => ?_)
    refine ru_iconst hX dX0_mayStand_35 (fun _ => ?_)
    obtain ⟨k3, h⟩ := h
    refine ru_icmp_ne (tgt := 56) hX dX0_mayStand_36 (by decide) k3 (by unfold eh_r; decide) (fun q => ?_) (fun q => ?_)
    · have q4 := q
      replace h := h.2 q4
      refine ru_iload_n hX dX0_mayStand_56 rfl (fun _ => ?_)
      refine ru_iconst hX dX0_mayStand_57 (fun _ => ?_)
      refine ru_icmp_ne (tgt := 66) hX dX0_mayStand_58 (by decide) k3 (by unfold eh_r; decide) (fun q => ?_) (fun q => ?_)
      · have q5 := q
        replace h := h.2 q5
        refine ru_iconst hX dX0_mayStand_66 (fun _ => ?_)
        refine ru_goto (tgt := 71) hX dX0_mayStand_67 (by decide) ?_
        exact ru_ireturn hX dX0_mayStand_71 (Or.inr ⟨rfl, by decide⟩) ⟨Nat.zero_le _, Nat.zero_le _⟩ (fun _ => h)
      · have q6 := q
        replace h := h.1 q6
        refine ru_iload_n hX dX0_mayStand_61 rfl (fun _ => ?_)
        refine ru_iconst hX dX0_mayStand_62 (fun _ => ?_)
        refine ru_icmp_eq (tgt := 70) hX dX0_mayStand_63 (by decide) (hok.2 _ _ _ (by decide) (by decide) (by decide) (by decide)) (by unfold eh_r; decide) (fun q => ?_) (fun q => ?_)
        · have q7 := q
          replace h := h.1 q7
          refine ru_iconst hX dX0_mayStand_70 (fun _ => ?_)
          exact ru_ireturn hX dX0_mayStand_71 (Or.inr ⟨rfl, by decide⟩) ⟨Nat.zero_le _, Nat.zero_le _⟩ (fun _ => h)
        · have q8 := q
          replace h := h.2 q8
          refine ru_iconst hX dX0_mayStand_66 (fun _ => ?_)
          refine ru_goto (tgt := 71) hX dX0_mayStand_67 (by decide) ?_
          exact ru_ireturn hX dX0_mayStand_71 (Or.inr ⟨rfl, by decide⟩) ⟨Nat.zero_le _, Nat.zero_le _⟩ (fun _ => h)
    · have q9 := q
      replace h := h.1 q9
      refine ru_iload_n hX dX0_mayStand_39 rfl (fun _ => ?_)
      refine ru_if_eq (tgt := 48) hX dX0_mayStand_40 (by decide) (hok.2 _ _ _ (by decide) (by decide) (by decide) (by decide)) (fun q => ?_) (fun q => ?_)
      · have q10 := q
        replace h := h.1 q10
        refine ru_iconst hX dX0_mayStand_48 (fun _ => ?_)
        refine ru_goto (tgt := 71) hX dX0_mayStand_49 (by decide) ?_
        exact ru_ireturn hX dX0_mayStand_71 (Or.inr ⟨rfl, by decide⟩) ⟨Nat.zero_le _, Nat.zero_le _⟩ (fun _ => h)
      · have q11 := q
        replace h := h.2 q11
        refine ru_iload_n hX dX0_mayStand_43 rfl (fun _ => ?_)
        refine ru_iconst hX dX0_mayStand_44 (fun _ => ?_)
        refine ru_icmp_ne (tgt := 52) hX dX0_mayStand_45 (by decide) (hok.2 _ _ _ (by decide) (by decide) (by decide) (by decide)) (by unfold eh_r; decide) (fun q => ?_) (fun q => ?_)
        · have q12 := q
          replace h := h.2 q12
          refine ru_iconst hX dX0_mayStand_52 (fun _ => ?_)
          refine ru_goto (tgt := 71) hX dX0_mayStand_53 (by decide) ?_
          exact ru_ireturn hX dX0_mayStand_71 (Or.inr ⟨rfl, by decide⟩) ⟨Nat.zero_le _, Nat.zero_le _⟩ (fun _ => h)
        · have q13 := q
          replace h := h.1 q13
          refine ru_iconst hX dX0_mayStand_48 (fun _ => ?_)
          refine ru_goto (tgt := 71) hX dX0_mayStand_49 (by decide) ?_
          exact ru_ireturn hX dX0_mayStand_71 (Or.inr ⟨rfl, by decide⟩) ⟨Nat.zero_le _, Nat.zero_le _⟩ (fun _ => h)
  · have q14 := q
    replace h := h.1 q14
    refine ru_iload_n hX dX0_mayStand_7 rfl (fun _ => ?_)
    obtain ⟨k15, h⟩ := h
    refine ru_if_eq (tgt := 16) hX dX0_mayStand_8 (by decide) k15 (fun q => ?_) (fun q => ?_)
    · have q16 := q
      replace h := h.1 q16
      refine ru_iconst hX dX0_mayStand_16 (fun _ => ?_)
      refine ru_goto (tgt := 21) hX dX0_mayStand_17 (by decide) ?_
      exact ru_ireturn hX dX0_mayStand_21 (Or.inr ⟨rfl, by decide⟩) ⟨Nat.zero_le _, Nat.zero_le _⟩ (fun _ => h)
    · have q17 := q
      replace h := h.2 q17
      refine ru_iload_n hX dX0_mayStand_11 rfl (fun _ => ?_)
      refine ru_iconst hX dX0_mayStand_12 (fun _ => ?_)
      refine ru_icmp_ne (tgt := 20) hX dX0_mayStand_13 (by decide) k15 (by unfold eh_r; decide) (fun q => ?_) (fun q => ?_)
      · have q18 := q
        replace h := h.2 q18
        refine ru_iconst hX dX0_mayStand_20 (fun _ => ?_)
        exact ru_ireturn hX dX0_mayStand_21 (Or.inr ⟨rfl, by decide⟩) ⟨Nat.zero_le _, Nat.zero_le _⟩ (fun _ => h)
      · have q19 := q
        replace h := h.1 q19
        refine ru_iconst hX dX0_mayStand_16 (fun _ => ?_)
        refine ru_goto (tgt := 21) hX dX0_mayStand_17 (by decide) ?_
        exact ru_ireturn hX dX0_mayStand_21 (Or.inr ⟨rfl, by decide⟩) ⟨Nat.zero_le _, Nat.zero_le _⟩ (fun _ => h)
theorem bX0_put_0 {cs ss : Nat → Option (Nat × eh_T)} {lim : Nat × Nat} {Rt : Option eh_V → eh_S → Prop} {X : eh_X} (hX : eh_Ru eh_nX eh_fl0 eh_kn0 cs ss lim Rt 0 cX0_put X) {T77 : eh_T} (hc77 : ss 77 = some (3, T77)) {σ : eh_S}  {a1 : Int} {a2 : Int} {a3 : Int} {o4 : Option eh_V} {o5 : Option eh_V}  (h : eh_ok σ → T77 [.inl a1, .inl 0, .inl 15] σ (0, 0) (fun r σ1 => X 7 [some (.inr (some (0, 0))), some (.inl a1), some (.inl a2), some (.inl a3), o4, o5] (r.toList ++ []) σ1 (0, 0))) : X 0 [some (.inr (some (0, 0))), some (.inl a1), some (.inl a2), some (.inl a3), o4, o5] [] σ (0, 0) := by
  refine ru_ok hX (fun hok => ?_)
  replace h := h hok
  refine ru_iload_n hX dX0_put_0 rfl (fun _ => ?_)
  refine ru_iconst hX dX0_put_1 (fun _ => ?_)
  refine ru_bipush hX dX0_put_2 (by decide) (fun _ => ?_)
  exact ru_callS (as := [.inl a1, .inl 0, .inl 15]) (rest := []) hX dX0_put_4 hc77 rfl (Nat.le_of_ble_eq_true rfl) (0, 0) ⟨Nat.zero_le _, Nat.zero_le _⟩ h
theorem bX0_put_7 {cs ss : Nat → Option (Nat × eh_T)} {lim : Nat × Nat} {Rt : Option eh_V → eh_S → Prop} {X : eh_X} (hX : eh_Ru eh_nX eh_fl0 eh_kn0 cs ss lim Rt 0 cX0_put X) {T77 : eh_T} (hc77 : ss 77 = some (3, T77)) {σ : eh_S}  {a1 : Int} {a2 : Int} {a3 : Int} {o4 : Option eh_V} {o5 : Option eh_V} {s0 : Int}  (h : eh_ok σ → (-2147483648 ≤ s0 ∧ s0 < 2147483648) ∧ ((s0 = 0 → Rt (some (.inl (-1))) σ) ∧ (¬ s0 = 0 → T77 [.inl a2, .inl 0, .inl 100000] σ (0, 0) (fun r σ1 => X 17 [some (.inr (some (0, 0))), some (.inl a1), some (.inl a2), some (.inl a3), o4, o5] (r.toList ++ []) σ1 (0, 0))))) : X 7 [some (.inr (some (0, 0))), some (.inl a1), some (.inl a2), some (.inl a3), o4, o5] [.inl s0] σ (0, 0) := by
  refine ru_ok hX (fun hok => ?_)
  replace h := h hok
  obtain ⟨k1, h⟩ := h
  refine ru_if_eq (tgt := 31) hX dX0_put_7 (by decide) k1 (fun q => ?_) (fun q => ?_)
  · have q2 := q
    replace h := h.1 q2
    refine ru_iconst hX dX0_put_31 (fun _ => ?_)
    exact ru_ireturn hX dX0_put_32 (Or.inl rfl) ⟨Nat.zero_le _, Nat.zero_le _⟩ (fun _ => h)
  · have q3 := q
    replace h := h.2 q3
    refine ru_iload_n hX dX0_put_10 rfl (fun _ => ?_)
    refine ru_iconst hX dX0_put_11 (fun _ => ?_)
    refine ru_ldc hX dX0_put_12 rfl (fun _ => ?_)
    exact ru_callS (as := [.inl a2, .inl 0, .inl 100000]) (rest := []) hX dX0_put_14 hc77 rfl (Nat.le_of_ble_eq_true rfl) (0, 0) ⟨Nat.zero_le _, Nat.zero_le _⟩ h
theorem bX0_put_17 {cs ss : Nat → Option (Nat × eh_T)} {lim : Nat × Nat} {Rt : Option eh_V → eh_S → Prop} {X : eh_X} (hX : eh_Ru eh_nX eh_fl0 eh_kn0 cs ss lim Rt 0 cX0_put X) {T77 : eh_T} (hc77 : ss 77 = some (3, T77)) {σ : eh_S}  {a1 : Int} {a2 : Int} {a3 : Int} {o4 : Option eh_V} {o5 : Option eh_V} {s0 : Int}  (h : eh_ok σ → (-2147483648 ≤ s0 ∧ s0 < 2147483648) ∧ ((s0 = 0 → Rt (some (.inl (-1))) σ) ∧ (¬ s0 = 0 → T77 [.inl a3, .inl 0, .inl 9999] σ (0, 0) (fun r σ1 => X 28 [some (.inr (some (0, 0))), some (.inl a1), some (.inl a2), some (.inl a3), o4, o5] (r.toList ++ []) σ1 (0, 0))))) : X 17 [some (.inr (some (0, 0))), some (.inl a1), some (.inl a2), some (.inl a3), o4, o5] [.inl s0] σ (0, 0) := by
  refine ru_ok hX (fun hok => ?_)
  replace h := h hok
  obtain ⟨k1, h⟩ := h
  refine ru_if_eq (tgt := 31) hX dX0_put_17 (by decide) k1 (fun q => ?_) (fun q => ?_)
  · have q2 := q
    replace h := h.1 q2
    refine ru_iconst hX dX0_put_31 (fun _ => ?_)
    exact ru_ireturn hX dX0_put_32 (Or.inl rfl) ⟨Nat.zero_le _, Nat.zero_le _⟩ (fun _ => h)
  · have q3 := q
    replace h := h.2 q3
    refine ru_iload_n hX dX0_put_20 rfl (fun _ => ?_)
    refine ru_iconst hX dX0_put_21 (fun _ => ?_)
    refine ru_sipush hX dX0_put_22 (by decide) (fun _ => ?_)
    exact ru_callS (as := [.inl a3, .inl 0, .inl 9999]) (rest := []) hX dX0_put_25 hc77 rfl (Nat.le_of_ble_eq_true rfl) (0, 0) ⟨Nat.zero_le _, Nat.zero_le _⟩ h
theorem bX0_put_28 {cs ss : Nat → Option (Nat × eh_T)} {lim : Nat × Nat} {Rt : Option eh_V → eh_S → Prop} {X : eh_X} (hX : eh_Ru eh_nX eh_fl0 eh_kn0 cs ss lim Rt 0 cX0_put X)  {σ : eh_S}  {a1 : Int} {a2 : Int} {a3 : Int} {o4 : Option eh_V} {o5 : Option eh_V} {s0 : Int}  (h : eh_ok σ → (-2147483648 ≤ s0 ∧ s0 < 2147483648) ∧ ((s0 = 0 → Rt (some (.inl (-1))) σ) ∧ (¬ s0 = 0 → (-2147483648 ≤ a2 ∧ a2 < 2147483648) ∧ ((σ.1 108 0 ≤ a2 → X 59 [some (.inr (some (0, 0))), some (.inl a1), some (.inl a2), some (.inl a3), some (.inl (σ.1 106 0)), o5] [] σ (0, 0)) ∧ (¬ σ.1 108 0 ≤ a2 → Rt (some (.inl 0)) (eh_sV σ 107 0 (eh_wr ((σ.1 107 0) + 1)))))))) : X 28 [some (.inr (some (0, 0))), some (.inl a1), some (.inl a2), some (.inl a3), o4, o5] [.inl s0] σ (0, 0) := by
  refine ru_ok hX (fun hok => ?_)
  replace h := h hok
  obtain ⟨k1, h⟩ := h
  refine ru_if_ne (tgt := 33) hX dX0_put_28 (by decide) k1 (fun q => ?_) (fun q => ?_)
  · have q2 := q
    replace h := h.2 q2
    refine ru_iload_n hX dX0_put_33 rfl (fun _ => ?_)
    refine ru_aload_n hX dX0_put_34 rfl (fun _ => ?_)
    refine ru_get (v := .inl (σ.1 108 0)) hX dX0_put_35 rfl ⟨by decide, by decide⟩ rfl (fun _ => ?_)
    obtain ⟨k3, h⟩ := h
    refine ru_icmp_ge (tgt := 53) hX dX0_put_38 (by decide) k3 (hok.1 _ _) (fun q => ?_) (fun q => ?_)
    · have q4 := q
      replace h := h.1 q4
      refine ru_aload_n hX dX0_put_53 rfl (fun _ => ?_)
      refine ru_get (v := .inl (σ.1 106 0)) hX dX0_put_54 rfl ⟨by decide, by decide⟩ rfl (fun _ => ?_)
      refine ru_istore (ls1 := [some (.inr (some (0, 0))), some (.inl a1), some (.inl a2), some (.inl a3), some (.inl (σ.1 106 0)), o5]) hX dX0_put_57 (Nat.le_of_ble_eq_true rfl) rfl (fun _ => ?_)
      exact h
    · have q5 := q
      replace h := h.2 q5
      refine ru_aload_n hX dX0_put_41 rfl (fun _ => ?_)
      refine ru_dup hX dX0_put_42 (fun _ => ?_)
      refine ru_get (v := .inl (σ.1 107 0)) hX dX0_put_43 rfl ⟨by decide, by decide⟩ rfl (fun _ => ?_)
      refine ru_iconst hX dX0_put_46 (fun _ => ?_)
      refine ru_iadd hX dX0_put_47 (fun _ => ?_)
      refine ru_putW (id := 107) hX dX0_put_48 rfl ⟨by decide, by decide⟩ rfl rfl (fun _ => ?_)
      refine ru_iconst hX dX0_put_51 (fun hok6 => ?_)
      exact ru_ireturn hX dX0_put_52 (Or.inl rfl) ⟨Nat.zero_le _, Nat.zero_le _⟩ (fun _ => h)
  · have q7 := q
    replace h := h.1 q7
    refine ru_iconst hX dX0_put_31 (fun _ => ?_)
    exact ru_ireturn hX dX0_put_32 (Or.inl rfl) ⟨Nat.zero_le _, Nat.zero_le _⟩ (fun _ => h)
theorem bX0_put_59 {cs ss : Nat → Option (Nat × eh_T)} {lim : Nat × Nat} {Rt : Option eh_V → eh_S → Prop} {X : eh_X} (hX : eh_Ru eh_nX eh_fl0 eh_kn0 cs ss lim Rt 0 cX0_put X) {T135 : eh_T} (hc135 : cs 135 = some (4, T135)) {σ : eh_S}  {a1 : Int} {a2 : Int} {a3 : Int} {a4 : Int} {o5 : Option eh_V}  (h : eh_ok σ → (-2147483648 ≤ a4 ∧ a4 < 2147483648) ∧ ((a4 ≤ σ.1 105 0 → ((σ.1 106 0 ≤ a4 → (-2147483648 ≤ (σ.1 106 0) - (σ.1 105 0) ∧ (σ.1 106 0) - (σ.1 105 0) < 2147483648) ∧ (((σ.1 106 0) - (σ.1 105 0) = 100 → Rt (some (.inl (-4))) σ) ∧ (¬ (σ.1 106 0) - (σ.1 105 0) = 100 → ((σ.1 106 0 = 1000 → Rt (some (.inl (-4))) σ) ∧ (¬ σ.1 106 0 = 1000 → X 154 [some (.inr (some (0, 0))), some (.inl a1), some (.inl a2), some (.inl a3), some (.inl a4), some (.inl (σ.1 106 0))] [] σ (0, 0)))))) ∧ (¬ σ.1 106 0 ≤ a4 → (0 ≤ a4 ∧ a4 < 1000) ∧ (-2147483648 ≤ a2 ∧ a2 < 2147483648) ∧ ((σ.2 102 0 a4 = a2 → (-2147483648 ≤ a3 ∧ a3 < 2147483648) ∧ ((σ.2 103 0 a4 = a3 → Rt (some (.inl (-2))) σ) ∧ (¬ σ.2 103 0 a4 = a3 → (-2147483648 ≤ (σ.1 106 0) - (σ.1 105 0) ∧ (σ.1 106 0) - (σ.1 105 0) < 2147483648) ∧ (((σ.1 106 0) - (σ.1 105 0) = 100 → Rt (some (.inl (-4))) σ) ∧ (¬ (σ.1 106 0) - (σ.1 105 0) = 100 → ((σ.1 106 0 = 1000 → Rt (some (.inl (-4))) σ) ∧ (¬ σ.1 106 0 = 1000 → X 154 [some (.inr (some (0, 0))), some (.inl a1), some (.inl a2), some (.inl a3), some (.inl a4), some (.inl (σ.1 106 0))] [] σ (0, 0)))))))) ∧ (¬ σ.2 102 0 a4 = a2 → (-2147483648 ≤ (σ.1 106 0) - (σ.1 105 0) ∧ (σ.1 106 0) - (σ.1 105 0) < 2147483648) ∧ (((σ.1 106 0) - (σ.1 105 0) = 100 → Rt (some (.inl (-4))) σ) ∧ (¬ (σ.1 106 0) - (σ.1 105 0) = 100 → ((σ.1 106 0 = 1000 → Rt (some (.inl (-4))) σ) ∧ (¬ σ.1 106 0 = 1000 → X 154 [some (.inr (some (0, 0))), some (.inl a1), some (.inl a2), some (.inl a3), some (.inl a4), some (.inl (σ.1 106 0))] [] σ (0, 0)))))))))) ∧ (¬ a4 ≤ σ.1 105 0 → T135 [.inr (some (0, 0)), .inl (a4 - 1), .inl a2, .inl a3] σ (0, 0) (fun r σ1 => X 78 [some (.inr (some (0, 0))), some (.inl a1), some (.inl a2), some (.inl a3), some (.inl a4), o5] (r.toList ++ []) σ1 (0, 0))))) : X 59 [some (.inr (some (0, 0))), some (.inl a1), some (.inl a2), some (.inl a3), some (.inl a4), o5] [] σ (0, 0) := by
  refine ru_ok hX (fun hok => ?_)
  replace h := h hok
  refine ru_iload hX dX0_put_59 rfl (fun _ => ?_)
  refine ru_aload_n hX dX0_put_61 rfl (fun _ => ?_)
  refine ru_get (v := .inl (σ.1 105 0)) hX dX0_put_62 rfl ⟨by decide, by decide⟩ rfl (fun _ => ?_)
  obtain ⟨k1, h⟩ := h
  refine ru_icmp_le (tgt := 87) hX dX0_put_65 (by decide) k1 (hok.1 _ _) (fun q => ?_) (fun q => ?_)
  · have q2 := q
    replace h := h.1 q2
    refine ru_iload hX dX0_put_87 rfl (fun _ => ?_)
    refine ru_aload_n hX dX0_put_89 rfl (fun _ => ?_)
    refine ru_get (v := .inl (σ.1 106 0)) hX dX0_put_90 rfl ⟨by decide, by decide⟩ rfl (fun _ => ?_)
    refine ru_icmp_ge (tgt := 121) hX dX0_put_93 (by decide) k1 (hok.1 _ _) (fun q => ?_) (fun q => ?_)
    · have q3 := q
      replace h := h.1 q3
      refine ru_aload_n hX dX0_put_121 rfl (fun _ => ?_)
      refine ru_get (v := .inl (σ.1 106 0)) hX dX0_put_122 rfl ⟨by decide, by decide⟩ rfl (fun _ => ?_)
      refine ru_aload_n hX dX0_put_125 rfl (fun _ => ?_)
      refine ru_get (v := .inl (σ.1 105 0)) hX dX0_put_126 rfl ⟨by decide, by decide⟩ rfl (fun _ => ?_)
      refine ru_isub hX dX0_put_129 (fun _ => ?_)
      refine ru_bipush hX dX0_put_130 (by decide) (fun _ => ?_)
      obtain ⟨k4, h⟩ := h
      refine ru_icmp_eq (tgt := 145) hX dX0_put_132 (by decide) k4 (by unfold eh_r; decide) (fun q => ?_) (fun q => ?_)
      · have q5 := q
        replace h := h.1 q5
        refine ru_bipush hX dX0_put_145 (by decide) (fun _ => ?_)
        exact ru_ireturn hX dX0_put_147 (Or.inl rfl) ⟨Nat.zero_le _, Nat.zero_le _⟩ (fun _ => h)
      · have q6 := q
        replace h := h.2 q6
        refine ru_aload_n hX dX0_put_135 rfl (fun _ => ?_)
        refine ru_get (v := .inl (σ.1 106 0)) hX dX0_put_136 rfl ⟨by decide, by decide⟩ rfl (fun _ => ?_)
        refine ru_sipush hX dX0_put_139 (by decide) (fun _ => ?_)
        refine ru_icmp_ne (tgt := 148) hX dX0_put_142 (by decide) (hok.1 _ _) (by unfold eh_r; decide) (fun q => ?_) (fun q => ?_)
        · have q7 := q
          replace h := h.2 q7
          refine ru_aload_n hX dX0_put_148 rfl (fun _ => ?_)
          refine ru_get (v := .inl (σ.1 106 0)) hX dX0_put_149 rfl ⟨by decide, by decide⟩ rfl (fun _ => ?_)
          refine ru_istore (ls1 := [some (.inr (some (0, 0))), some (.inl a1), some (.inl a2), some (.inl a3), some (.inl a4), some (.inl (σ.1 106 0))]) hX dX0_put_152 (Nat.le_of_ble_eq_true rfl) rfl (fun _ => ?_)
          exact h
        · have q8 := q
          replace h := h.1 q8
          refine ru_bipush hX dX0_put_145 (by decide) (fun _ => ?_)
          exact ru_ireturn hX dX0_put_147 (Or.inl rfl) ⟨Nat.zero_le _, Nat.zero_le _⟩ (fun _ => h)
    · have q9 := q
      replace h := h.2 q9
      refine ru_aload_n hX dX0_put_96 rfl (fun _ => ?_)
      refine ru_get (v := .inr (some (102, 0))) hX dX0_put_97 rfl ⟨by decide, by decide⟩ rfl (fun _ => ?_)
      refine ru_iload hX dX0_put_100 rfl (fun _ => ?_)
      obtain ⟨k10, h⟩ := h
      refine ru_iaload hX dX0_put_102 ⟨by decide, by decide⟩ rfl k10 (fun _ => ?_)
      refine ru_iload_n hX dX0_put_103 rfl (fun _ => ?_)
      obtain ⟨k11, h⟩ := h
      refine ru_icmp_ne (tgt := 121) hX dX0_put_104 (by decide) (hok.2 _ _ _ (by decide) (by decide) (by decide) (by decide)) k11 (fun q => ?_) (fun q => ?_)
      · have q12 := q
        replace h := h.2 q12
        refine ru_aload_n hX dX0_put_121 rfl (fun _ => ?_)
        refine ru_get (v := .inl (σ.1 106 0)) hX dX0_put_122 rfl ⟨by decide, by decide⟩ rfl (fun _ => ?_)
        refine ru_aload_n hX dX0_put_125 rfl (fun _ => ?_)
        refine ru_get (v := .inl (σ.1 105 0)) hX dX0_put_126 rfl ⟨by decide, by decide⟩ rfl (fun _ => ?_)
        refine ru_isub hX dX0_put_129 (fun _ => ?_)
        refine ru_bipush hX dX0_put_130 (by decide) (fun _ => ?_)
        obtain ⟨k13, h⟩ := h
        refine ru_icmp_eq (tgt := 145) hX dX0_put_132 (by decide) k13 (by unfold eh_r; decide) (fun q => ?_) (fun q => ?_)
        · have q14 := q
          replace h := h.1 q14
          refine ru_bipush hX dX0_put_145 (by decide) (fun _ => ?_)
          exact ru_ireturn hX dX0_put_147 (Or.inl rfl) ⟨Nat.zero_le _, Nat.zero_le _⟩ (fun _ => h)
        · have q15 := q
          replace h := h.2 q15
          refine ru_aload_n hX dX0_put_135 rfl (fun _ => ?_)
          refine ru_get (v := .inl (σ.1 106 0)) hX dX0_put_136 rfl ⟨by decide, by decide⟩ rfl (fun _ => ?_)
          refine ru_sipush hX dX0_put_139 (by decide) (fun _ => ?_)
          refine ru_icmp_ne (tgt := 148) hX dX0_put_142 (by decide) (hok.1 _ _) (by unfold eh_r; decide) (fun q => ?_) (fun q => ?_)
          · have q16 := q
            replace h := h.2 q16
            refine ru_aload_n hX dX0_put_148 rfl (fun _ => ?_)
            refine ru_get (v := .inl (σ.1 106 0)) hX dX0_put_149 rfl ⟨by decide, by decide⟩ rfl (fun _ => ?_)
            refine ru_istore (ls1 := [some (.inr (some (0, 0))), some (.inl a1), some (.inl a2), some (.inl a3), some (.inl a4), some (.inl (σ.1 106 0))]) hX dX0_put_152 (Nat.le_of_ble_eq_true rfl) rfl (fun _ => ?_)
            exact h
          · have q17 := q
            replace h := h.1 q17
            refine ru_bipush hX dX0_put_145 (by decide) (fun _ => ?_)
            exact ru_ireturn hX dX0_put_147 (Or.inl rfl) ⟨Nat.zero_le _, Nat.zero_le _⟩ (fun _ => h)
      · have q18 := q
        replace h := h.1 q18
        refine ru_aload_n hX dX0_put_107 rfl (fun _ => ?_)
        refine ru_get (v := .inr (some (103, 0))) hX dX0_put_108 rfl ⟨by decide, by decide⟩ rfl (fun _ => ?_)
        refine ru_iload hX dX0_put_111 rfl (fun _ => ?_)
        refine ru_iaload hX dX0_put_113 ⟨by decide, by decide⟩ rfl k10 (fun _ => ?_)
        refine ru_iload_n hX dX0_put_114 rfl (fun _ => ?_)
        obtain ⟨k19, h⟩ := h
        refine ru_icmp_ne (tgt := 121) hX dX0_put_115 (by decide) (hok.2 _ _ _ (by decide) (by decide) (by decide) (by decide)) k19 (fun q => ?_) (fun q => ?_)
        · have q20 := q
          replace h := h.2 q20
          refine ru_aload_n hX dX0_put_121 rfl (fun _ => ?_)
          refine ru_get (v := .inl (σ.1 106 0)) hX dX0_put_122 rfl ⟨by decide, by decide⟩ rfl (fun _ => ?_)
          refine ru_aload_n hX dX0_put_125 rfl (fun _ => ?_)
          refine ru_get (v := .inl (σ.1 105 0)) hX dX0_put_126 rfl ⟨by decide, by decide⟩ rfl (fun _ => ?_)
          refine ru_isub hX dX0_put_129 (fun _ => ?_)
          refine ru_bipush hX dX0_put_130 (by decide) (fun _ => ?_)
          obtain ⟨k21, h⟩ := h
          refine ru_icmp_eq (tgt := 145) hX dX0_put_132 (by decide) k21 (by unfold eh_r; decide) (fun q => ?_) (fun q => ?_)
          · have q22 := q
            replace h := h.1 q22
            refine ru_bipush hX dX0_put_145 (by decide) (fun _ => ?_)
            exact ru_ireturn hX dX0_put_147 (Or.inl rfl) ⟨Nat.zero_le _, Nat.zero_le _⟩ (fun _ => h)
          · have q23 := q
            replace h := h.2 q23
            refine ru_aload_n hX dX0_put_135 rfl (fun _ => ?_)
            refine ru_get (v := .inl (σ.1 106 0)) hX dX0_put_136 rfl ⟨by decide, by decide⟩ rfl (fun _ => ?_)
            refine ru_sipush hX dX0_put_139 (by decide) (fun _ => ?_)
            refine ru_icmp_ne (tgt := 148) hX dX0_put_142 (by decide) (hok.1 _ _) (by unfold eh_r; decide) (fun q => ?_) (fun q => ?_)
            · have q24 := q
              replace h := h.2 q24
              refine ru_aload_n hX dX0_put_148 rfl (fun _ => ?_)
              refine ru_get (v := .inl (σ.1 106 0)) hX dX0_put_149 rfl ⟨by decide, by decide⟩ rfl (fun _ => ?_)
              refine ru_istore (ls1 := [some (.inr (some (0, 0))), some (.inl a1), some (.inl a2), some (.inl a3), some (.inl a4), some (.inl (σ.1 106 0))]) hX dX0_put_152 (Nat.le_of_ble_eq_true rfl) rfl (fun _ => ?_)
              exact h
            · have q25 := q
              replace h := h.1 q25
              refine ru_bipush hX dX0_put_145 (by decide) (fun _ => ?_)
              exact ru_ireturn hX dX0_put_147 (Or.inl rfl) ⟨Nat.zero_le _, Nat.zero_le _⟩ (fun _ => h)
        · have q26 := q
          replace h := h.1 q26
          refine ru_bipush hX dX0_put_118 (by decide) (fun _ => ?_)
          exact ru_ireturn hX dX0_put_120 (Or.inl rfl) ⟨Nat.zero_le _, Nat.zero_le _⟩ (fun _ => h)
  · have q27 := q
    replace h := h.2 q27
    refine ru_aload_n hX dX0_put_68 rfl (fun _ => ?_)
    refine ru_iload hX dX0_put_69 rfl (fun _ => ?_)
    refine ru_iconst hX dX0_put_71 (fun _ => ?_)
    refine ru_isub hX dX0_put_72 (fun _ => ?_)
    refine ru_iload_n hX dX0_put_73 rfl (fun _ => ?_)
    refine ru_iload_n hX dX0_put_74 rfl (fun _ => ?_)
    exact ru_callV (as := [.inr (some (0, 0)), .inl (a4 - 1), .inl a2, .inl a3]) (rest := []) hX dX0_put_75 hc135 rfl (Nat.le_of_ble_eq_true rfl) (0, 0) ⟨Nat.zero_le _, Nat.zero_le _⟩ h
theorem bX0_put_78 {cs ss : Nat → Option (Nat × eh_T)} {lim : Nat × Nat} {Rt : Option eh_V → eh_S → Prop} {X : eh_X} (hX : eh_Ru eh_nX eh_fl0 eh_kn0 cs ss lim Rt 0 cX0_put X)  {σ : eh_S}  {a1 : Int} {a2 : Int} {a3 : Int} {a4 : Int} {o5 : Option eh_V} {s0 : Int}  (h : eh_ok σ → (-2147483648 ≤ s0 ∧ s0 < 2147483648) ∧ ((s0 = 0 → X 59 [some (.inr (some (0, 0))), some (.inl a1), some (.inl a2), some (.inl a3), some (.inl (a4 + (-1))), o5] [] σ (0, 0)) ∧ (¬ s0 = 0 → (-2147483648 ≤ a4 ∧ a4 < 2147483648) ∧ ((σ.1 106 0 ≤ a4 → (-2147483648 ≤ (σ.1 106 0) - (σ.1 105 0) ∧ (σ.1 106 0) - (σ.1 105 0) < 2147483648) ∧ (((σ.1 106 0) - (σ.1 105 0) = 100 → Rt (some (.inl (-4))) σ) ∧ (¬ (σ.1 106 0) - (σ.1 105 0) = 100 → ((σ.1 106 0 = 1000 → Rt (some (.inl (-4))) σ) ∧ (¬ σ.1 106 0 = 1000 → X 154 [some (.inr (some (0, 0))), some (.inl a1), some (.inl a2), some (.inl a3), some (.inl a4), some (.inl (σ.1 106 0))] [] σ (0, 0)))))) ∧ (¬ σ.1 106 0 ≤ a4 → (0 ≤ a4 ∧ a4 < 1000) ∧ (-2147483648 ≤ a2 ∧ a2 < 2147483648) ∧ ((σ.2 102 0 a4 = a2 → (-2147483648 ≤ a3 ∧ a3 < 2147483648) ∧ ((σ.2 103 0 a4 = a3 → Rt (some (.inl (-2))) σ) ∧ (¬ σ.2 103 0 a4 = a3 → (-2147483648 ≤ (σ.1 106 0) - (σ.1 105 0) ∧ (σ.1 106 0) - (σ.1 105 0) < 2147483648) ∧ (((σ.1 106 0) - (σ.1 105 0) = 100 → Rt (some (.inl (-4))) σ) ∧ (¬ (σ.1 106 0) - (σ.1 105 0) = 100 → ((σ.1 106 0 = 1000 → Rt (some (.inl (-4))) σ) ∧ (¬ σ.1 106 0 = 1000 → X 154 [some (.inr (some (0, 0))), some (.inl a1), some (.inl a2), some (.inl a3), some (.inl a4), some (.inl (σ.1 106 0))] [] σ (0, 0)))))))) ∧ (¬ σ.2 102 0 a4 = a2 → (-2147483648 ≤ (σ.1 106 0) - (σ.1 105 0) ∧ (σ.1 106 0) - (σ.1 105 0) < 2147483648) ∧ (((σ.1 106 0) - (σ.1 105 0) = 100 → Rt (some (.inl (-4))) σ) ∧ (¬ (σ.1 106 0) - (σ.1 105 0) = 100 → ((σ.1 106 0 = 1000 → Rt (some (.inl (-4))) σ) ∧ (¬ σ.1 106 0 = 1000 → X 154 [some (.inr (some (0, 0))), some (.inl a1), some (.inl a2), some (.inl a3), some (.inl a4), some (.inl (σ.1 106 0))] [] σ (0, 0)))))))))))) : X 78 [some (.inr (some (0, 0))), some (.inl a1), some (.inl a2), some (.inl a3), some (.inl a4), o5] [.inl s0] σ (0, 0) := by
  refine ru_ok hX (fun hok => ?_)
  replace h := h hok
  obtain ⟨k1, h⟩ := h
  refine ru_if_ne (tgt := 87) hX dX0_put_78 (by decide) k1 (fun q => ?_) (fun q => ?_)
  · have q2 := q
    replace h := h.2 q2
    refine ru_iload hX dX0_put_87 rfl (fun _ => ?_)
    refine ru_aload_n hX dX0_put_89 rfl (fun _ => ?_)
    refine ru_get (v := .inl (σ.1 106 0)) hX dX0_put_90 rfl ⟨by decide, by decide⟩ rfl (fun _ => ?_)
    obtain ⟨k3, h⟩ := h
    refine ru_icmp_ge (tgt := 121) hX dX0_put_93 (by decide) k3 (hok.1 _ _) (fun q => ?_) (fun q => ?_)
    · have q4 := q
      replace h := h.1 q4
      refine ru_aload_n hX dX0_put_121 rfl (fun _ => ?_)
      refine ru_get (v := .inl (σ.1 106 0)) hX dX0_put_122 rfl ⟨by decide, by decide⟩ rfl (fun _ => ?_)
      refine ru_aload_n hX dX0_put_125 rfl (fun _ => ?_)
      refine ru_get (v := .inl (σ.1 105 0)) hX dX0_put_126 rfl ⟨by decide, by decide⟩ rfl (fun _ => ?_)
      refine ru_isub hX dX0_put_129 (fun _ => ?_)
      refine ru_bipush hX dX0_put_130 (by decide) (fun _ => ?_)
      obtain ⟨k5, h⟩ := h
      refine ru_icmp_eq (tgt := 145) hX dX0_put_132 (by decide) k5 (by unfold eh_r; decide) (fun q => ?_) (fun q => ?_)
      · have q6 := q
        replace h := h.1 q6
        refine ru_bipush hX dX0_put_145 (by decide) (fun _ => ?_)
        exact ru_ireturn hX dX0_put_147 (Or.inl rfl) ⟨Nat.zero_le _, Nat.zero_le _⟩ (fun _ => h)
      · have q7 := q
        replace h := h.2 q7
        refine ru_aload_n hX dX0_put_135 rfl (fun _ => ?_)
        refine ru_get (v := .inl (σ.1 106 0)) hX dX0_put_136 rfl ⟨by decide, by decide⟩ rfl (fun _ => ?_)
        refine ru_sipush hX dX0_put_139 (by decide) (fun _ => ?_)
        refine ru_icmp_ne (tgt := 148) hX dX0_put_142 (by decide) (hok.1 _ _) (by unfold eh_r; decide) (fun q => ?_) (fun q => ?_)
        · have q8 := q
          replace h := h.2 q8
          refine ru_aload_n hX dX0_put_148 rfl (fun _ => ?_)
          refine ru_get (v := .inl (σ.1 106 0)) hX dX0_put_149 rfl ⟨by decide, by decide⟩ rfl (fun _ => ?_)
          refine ru_istore (ls1 := [some (.inr (some (0, 0))), some (.inl a1), some (.inl a2), some (.inl a3), some (.inl a4), some (.inl (σ.1 106 0))]) hX dX0_put_152 (Nat.le_of_ble_eq_true rfl) rfl (fun _ => ?_)
          exact h
        · have q9 := q
          replace h := h.1 q9
          refine ru_bipush hX dX0_put_145 (by decide) (fun _ => ?_)
          exact ru_ireturn hX dX0_put_147 (Or.inl rfl) ⟨Nat.zero_le _, Nat.zero_le _⟩ (fun _ => h)
    · have q10 := q
      replace h := h.2 q10
      refine ru_aload_n hX dX0_put_96 rfl (fun _ => ?_)
      refine ru_get (v := .inr (some (102, 0))) hX dX0_put_97 rfl ⟨by decide, by decide⟩ rfl (fun _ => ?_)
      refine ru_iload hX dX0_put_100 rfl (fun _ => ?_)
      obtain ⟨k11, h⟩ := h
      refine ru_iaload hX dX0_put_102 ⟨by decide, by decide⟩ rfl k11 (fun _ => ?_)
      refine ru_iload_n hX dX0_put_103 rfl (fun _ => ?_)
      obtain ⟨k12, h⟩ := h
      refine ru_icmp_ne (tgt := 121) hX dX0_put_104 (by decide) (hok.2 _ _ _ (by decide) (by decide) (by decide) (by decide)) k12 (fun q => ?_) (fun q => ?_)
      · have q13 := q
        replace h := h.2 q13
        refine ru_aload_n hX dX0_put_121 rfl (fun _ => ?_)
        refine ru_get (v := .inl (σ.1 106 0)) hX dX0_put_122 rfl ⟨by decide, by decide⟩ rfl (fun _ => ?_)
        refine ru_aload_n hX dX0_put_125 rfl (fun _ => ?_)
        refine ru_get (v := .inl (σ.1 105 0)) hX dX0_put_126 rfl ⟨by decide, by decide⟩ rfl (fun _ => ?_)
        refine ru_isub hX dX0_put_129 (fun _ => ?_)
        refine ru_bipush hX dX0_put_130 (by decide) (fun _ => ?_)
        obtain ⟨k14, h⟩ := h
        refine ru_icmp_eq (tgt := 145) hX dX0_put_132 (by decide) k14 (by unfold eh_r; decide) (fun q => ?_) (fun q => ?_)
        · have q15 := q
          replace h := h.1 q15
          refine ru_bipush hX dX0_put_145 (by decide) (fun _ => ?_)
          exact ru_ireturn hX dX0_put_147 (Or.inl rfl) ⟨Nat.zero_le _, Nat.zero_le _⟩ (fun _ => h)
        · have q16 := q
          replace h := h.2 q16
          refine ru_aload_n hX dX0_put_135 rfl (fun _ => ?_)
          refine ru_get (v := .inl (σ.1 106 0)) hX dX0_put_136 rfl ⟨by decide, by decide⟩ rfl (fun _ => ?_)
          refine ru_sipush hX dX0_put_139 (by decide) (fun _ => ?_)
          refine ru_icmp_ne (tgt := 148) hX dX0_put_142 (by decide) (hok.1 _ _) (by unfold eh_r; decide) (fun q => ?_) (fun q => ?_)
          · have q17 := q
            replace h := h.2 q17
            refine ru_aload_n hX dX0_put_148 rfl (fun _ => ?_)
            refine ru_get (v := .inl (σ.1 106 0)) hX dX0_put_149 rfl ⟨by decide, by decide⟩ rfl (fun _ => ?_)
            refine ru_istore (ls1 := [some (.inr (some (0, 0))), some (.inl a1), some (.inl a2), some (.inl a3), some (.inl a4), some (.inl (σ.1 106 0))]) hX dX0_put_152 (Nat.le_of_ble_eq_true rfl) rfl (fun _ => ?_)
            exact h
          · have q18 := q
            replace h := h.1 q18
            refine ru_bipush hX dX0_put_145 (by decide) (fun _ => ?_)
            exact ru_ireturn hX dX0_put_147 (Or.inl rfl) ⟨Nat.zero_le _, Nat.zero_le _⟩ (fun _ => h)
      · have q19 := q
        replace h := h.1 q19
        refine ru_aload_n hX dX0_put_107 rfl (fun _ => ?_)
        refine ru_get (v := .inr (some (103, 0))) hX dX0_put_108 rfl ⟨by decide, by decide⟩ rfl (fun _ => ?_)
        refine ru_iload hX dX0_put_111 rfl (fun _ => ?_)
        refine ru_iaload hX dX0_put_113 ⟨by decide, by decide⟩ rfl k11 (fun _ => ?_)
        refine ru_iload_n hX dX0_put_114 rfl (fun _ => ?_)
        obtain ⟨k20, h⟩ := h
        refine ru_icmp_ne (tgt := 121) hX dX0_put_115 (by decide) (hok.2 _ _ _ (by decide) (by decide) (by decide) (by decide)) k20 (fun q => ?_) (fun q => ?_)
        · have q21 := q
          replace h := h.2 q21
          refine ru_aload_n hX dX0_put_121 rfl (fun _ => ?_)
          refine ru_get (v := .inl (σ.1 106 0)) hX dX0_put_122 rfl ⟨by decide, by decide⟩ rfl (fun _ => ?_)
          refine ru_aload_n hX dX0_put_125 rfl (fun _ => ?_)
          refine ru_get (v := .inl (σ.1 105 0)) hX dX0_put_126 rfl ⟨by decide, by decide⟩ rfl (fun _ => ?_)
          refine ru_isub hX dX0_put_129 (fun _ => ?_)
          refine ru_bipush hX dX0_put_130 (by decide) (fun _ => ?_)
          obtain ⟨k22, h⟩ := h
          refine ru_icmp_eq (tgt := 145) hX dX0_put_132 (by decide) k22 (by unfold eh_r; decide) (fun q => ?_) (fun q => ?_)
          · have q23 := q
            replace h := h.1 q23
            refine ru_bipush hX dX0_put_145 (by decide) (fun _ => ?_)
            exact ru_ireturn hX dX0_put_147 (Or.inl rfl) ⟨Nat.zero_le _, Nat.zero_le _⟩ (fun _ => h)
          · have q24 := q
            replace h := h.2 q24
            refine ru_aload_n hX dX0_put_135 rfl (fun _ => ?_)
            refine ru_get (v := .inl (σ.1 106 0)) hX dX0_put_136 rfl ⟨by decide, by decide⟩ rfl (fun _ => ?_)
            refine ru_sipush hX dX0_put_139 (by decide) (fun _ => ?_)
            refine ru_icmp_ne (tgt := 148) hX dX0_put_142 (by decide) (hok.1 _ _) (by unfold eh_r; decide) (fun q => ?_) (fun q => ?_)
            · have q25 := q
              replace h := h.2 q25
              refine ru_aload_n hX dX0_put_148 rfl (fun _ => ?_)
              refine ru_get (v := .inl (σ.1 106 0)) hX dX0_put_149 rfl ⟨by decide, by decide⟩ rfl (fun _ => ?_)
              refine ru_istore (ls1 := [some (.inr (some (0, 0))), some (.inl a1), some (.inl a2), some (.inl a3), some (.inl a4), some (.inl (σ.1 106 0))]) hX dX0_put_152 (Nat.le_of_ble_eq_true rfl) rfl (fun _ => ?_)
              exact h
            · have q26 := q
              replace h := h.1 q26
              refine ru_bipush hX dX0_put_145 (by decide) (fun _ => ?_)
              exact ru_ireturn hX dX0_put_147 (Or.inl rfl) ⟨Nat.zero_le _, Nat.zero_le _⟩ (fun _ => h)
        · have q27 := q
          replace h := h.1 q27
          refine ru_bipush hX dX0_put_118 (by decide) (fun _ => ?_)
          exact ru_ireturn hX dX0_put_120 (Or.inl rfl) ⟨Nat.zero_le _, Nat.zero_le _⟩ (fun _ => h)
  · have q28 := q
    replace h := h.1 q28
    refine ru_iinc (ls1 := [some (.inr (some (0, 0))), some (.inl a1), some (.inl a2), some (.inl a3), some (.inl (a4 + (-1))), o5]) hX dX0_put_81 rfl rfl (fun _ => ?_)
    refine ru_goto (tgt := 59) hX dX0_put_84 (by decide) ?_
    exact h
theorem bX0_put_154 {cs ss : Nat → Option (Nat × eh_T)} {lim : Nat × Nat} {Rt : Option eh_V → eh_S → Prop} {X : eh_X} (hX : eh_Ru eh_nX eh_fl0 eh_kn0 cs ss lim Rt 0 cX0_put X) {T138 : eh_T} (hc138 : cs 138 = some (3, T138)) {T142 : eh_T} (hc142 : ss 142 = some (5, T142)) {σ : eh_S}  {a1 : Int} {a2 : Int} {a3 : Int} {a4 : Int} {a5 : Int}  (h : eh_ok σ → (-2147483648 ≤ a5 ∧ a5 < 2147483648) ∧ (-2147483648 ≤ a4 ∧ a4 < 2147483648) ∧ ((a5 ≤ a4 → (0 ≤ a4 ∧ a4 < 1000) ∧ (-2147483648 ≤ a1 ∧ a1 < 2147483648) ∧ (-2147483648 ≤ a2 ∧ a2 < 2147483648) ∧ (-2147483648 ≤ a3 ∧ a3 < 2147483648) ∧ T142 [.inr (some (109, 0)), .inl 0, .inr (some (104, 0)), .inl (a4 * 4), .inl 4] (eh_sA (eh_sA (eh_sA σ 101 0 a4 a1) 102 0 a4 a2) 103 0 a4 a3) (0, 0) (fun r σ1 => X 218 [some (.inr (some (0, 0))), some (.inl a1), some (.inl a2), some (.inl a3), some (.inl a4), some (.inl a5)] (r.toList ++ []) σ1 (0, 0))) ∧ (¬ a5 ≤ a4 → T138 [.inr (some (0, 0)), .inl (a5 - 1), .inl a5] σ (0, 0) (fun r σ1 => X 171 [some (.inr (some (0, 0))), some (.inl a1), some (.inl a2), some (.inl a3), some (.inl a4), some (.inl a5)] (r.toList ++ []) σ1 (0, 0))))) : X 154 [some (.inr (some (0, 0))), some (.inl a1), some (.inl a2), some (.inl a3), some (.inl a4), some (.inl a5)] [] σ (0, 0) := by
  refine ru_ok hX (fun hok => ?_)
  replace h := h hok
  refine ru_iload hX dX0_put_154 rfl (fun _ => ?_)
  refine ru_iload hX dX0_put_156 rfl (fun _ => ?_)
  obtain ⟨k1, h⟩ := h
  obtain ⟨k2, h⟩ := h
  refine ru_icmp_le (tgt := 177) hX dX0_put_158 (by decide) k1 k2 (fun q => ?_) (fun q => ?_)
  · have q3 := q
    replace h := h.1 q3
    refine ru_aload_n hX dX0_put_177 rfl (fun _ => ?_)
    refine ru_get (v := .inr (some (101, 0))) hX dX0_put_178 rfl ⟨by decide, by decide⟩ rfl (fun _ => ?_)
    refine ru_iload hX dX0_put_181 rfl (fun _ => ?_)
    refine ru_iload_n hX dX0_put_183 rfl (fun _ => ?_)
    obtain ⟨k4, h⟩ := h
    obtain ⟨k5, h⟩ := h
    refine ru_iastore hX dX0_put_184 ⟨by decide, by decide⟩ rfl k4 k5 (fun _ => ?_)
    refine ru_aload_n hX dX0_put_185 rfl (fun hok6 => ?_)
    refine ru_get (v := .inr (some (102, 0))) hX dX0_put_186 rfl ⟨by decide, by decide⟩ rfl (fun _ => ?_)
    refine ru_iload hX dX0_put_189 rfl (fun _ => ?_)
    refine ru_iload_n hX dX0_put_191 rfl (fun _ => ?_)
    obtain ⟨k7, h⟩ := h
    refine ru_iastore hX dX0_put_192 ⟨by decide, by decide⟩ rfl k4 k7 (fun _ => ?_)
    refine ru_aload_n hX dX0_put_193 rfl (fun hok8 => ?_)
    refine ru_get (v := .inr (some (103, 0))) hX dX0_put_194 rfl ⟨by decide, by decide⟩ rfl (fun _ => ?_)
    refine ru_iload hX dX0_put_197 rfl (fun _ => ?_)
    refine ru_iload_n hX dX0_put_199 rfl (fun _ => ?_)
    obtain ⟨k9, h⟩ := h
    refine ru_iastore hX dX0_put_200 ⟨by decide, by decide⟩ rfl k4 k9 (fun _ => ?_)
    refine ru_aload_n hX dX0_put_201 rfl (fun hok10 => ?_)
    refine ru_get (v := .inr (some (109, 0))) hX dX0_put_202 rfl ⟨by decide, by decide⟩ rfl (fun _ => ?_)
    refine ru_iconst hX dX0_put_205 (fun _ => ?_)
    refine ru_aload_n hX dX0_put_206 rfl (fun _ => ?_)
    refine ru_get (v := .inr (some (104, 0))) hX dX0_put_207 rfl ⟨by decide, by decide⟩ rfl (fun _ => ?_)
    refine ru_iload hX dX0_put_210 rfl (fun _ => ?_)
    refine ru_iconst hX dX0_put_212 (fun _ => ?_)
    refine ru_imul hX dX0_put_213 (fun _ => ?_)
    refine ru_iconst hX dX0_put_214 (fun _ => ?_)
    exact ru_callS (as := [.inr (some (109, 0)), .inl 0, .inr (some (104, 0)), .inl (a4 * 4), .inl 4]) (rest := []) hX dX0_put_215 hc142 rfl (Nat.le_of_ble_eq_true rfl) (0, 0) ⟨Nat.zero_le _, Nat.zero_le _⟩ h
  · have q11 := q
    replace h := h.2 q11
    refine ru_aload_n hX dX0_put_161 rfl (fun _ => ?_)
    refine ru_iload hX dX0_put_162 rfl (fun _ => ?_)
    refine ru_iconst hX dX0_put_164 (fun _ => ?_)
    refine ru_isub hX dX0_put_165 (fun _ => ?_)
    refine ru_iload hX dX0_put_166 rfl (fun _ => ?_)
    exact ru_callV (as := [.inr (some (0, 0)), .inl (a5 - 1), .inl a5]) (rest := []) hX dX0_put_168 hc138 rfl (Nat.le_of_ble_eq_true rfl) (0, 0) ⟨Nat.zero_le _, Nat.zero_le _⟩ h
theorem bX0_put_171 {cs ss : Nat → Option (Nat × eh_T)} {lim : Nat × Nat} {Rt : Option eh_V → eh_S → Prop} {X : eh_X} (hX : eh_Ru eh_nX eh_fl0 eh_kn0 cs ss lim Rt 0 cX0_put X)  {σ : eh_S}  {a1 : Int} {a2 : Int} {a3 : Int} {a4 : Int} {a5 : Int}  (h : eh_ok σ → X 154 [some (.inr (some (0, 0))), some (.inl a1), some (.inl a2), some (.inl a3), some (.inl a4), some (.inl (a5 + (-1)))] [] σ (0, 0)) : X 171 [some (.inr (some (0, 0))), some (.inl a1), some (.inl a2), some (.inl a3), some (.inl a4), some (.inl a5)] [] σ (0, 0) := by
  refine ru_ok hX (fun hok => ?_)
  replace h := h hok
  refine ru_iinc (ls1 := [some (.inr (some (0, 0))), some (.inl a1), some (.inl a2), some (.inl a3), some (.inl a4), some (.inl (a5 + (-1)))]) hX dX0_put_171 rfl rfl (fun _ => ?_)
  refine ru_goto (tgt := 154) hX dX0_put_174 (by decide) ?_
  exact h
theorem bX0_put_218 {cs ss : Nat → Option (Nat × eh_T)} {lim : Nat × Nat} {Rt : Option eh_V → eh_S → Prop} {X : eh_X} (hX : eh_Ru eh_nX eh_fl0 eh_kn0 cs ss lim Rt 0 cX0_put X)  {σ : eh_S}  {o1 : Option eh_V} {o2 : Option eh_V} {o3 : Option eh_V} {o4 : Option eh_V} {o5 : Option eh_V}  (h : eh_ok σ → (-2147483648 ≤ (σ.1 106 0) + 1 ∧ (σ.1 106 0) + 1 < 2147483648) ∧ Rt (some (.inl 1)) (eh_sV σ 106 0 ((σ.1 106 0) + 1))) : X 218 [some (.inr (some (0, 0))), o1, o2, o3, o4, o5] [] σ (0, 0) := by
  refine ru_ok hX (fun hok => ?_)
  replace h := h hok
  refine ru_aload_n hX dX0_put_218 rfl (fun _ => ?_)
  refine ru_dup hX dX0_put_219 (fun _ => ?_)
  refine ru_get (v := .inl (σ.1 106 0)) hX dX0_put_220 rfl ⟨by decide, by decide⟩ rfl (fun _ => ?_)
  refine ru_iconst hX dX0_put_223 (fun _ => ?_)
  refine ru_iadd hX dX0_put_224 (fun _ => ?_)
  obtain ⟨k1, h⟩ := h
  refine ru_putI (id := 106) hX dX0_put_225 rfl ⟨by decide, by decide⟩ rfl k1 rfl (fun _ => ?_)
  refine ru_iconst hX dX0_put_228 (fun hok2 => ?_)
  exact ru_ireturn hX dX0_put_229 (Or.inl rfl) ⟨Nat.zero_le _, Nat.zero_le _⟩ (fun _ => h)
theorem bX0_isAhead_0 {cs ss : Nat → Option (Nat × eh_T)} {lim : Nat × Nat} {Rt : Option eh_V → eh_S → Prop} {X : eh_X} (hX : eh_Ru eh_nX eh_fl0 eh_kn0 cs ss lim Rt 1 cX0_isAhead X)  {σ : eh_S}  {a1 : Int} {a2 : Int} {a3 : Int}  (h : eh_ok σ → (0 ≤ a1 ∧ a1 < 1000) ∧ (-2147483648 ≤ a2 ∧ a2 < 2147483648) ∧ ((σ.2 102 0 a1 < a2 → Rt (some (.inl 1)) σ) ∧ (¬ σ.2 102 0 a1 < a2 → ((σ.2 102 0 a1 = a2 → (-2147483648 ≤ a3 ∧ a3 < 2147483648) ∧ ((a3 ≤ σ.2 103 0 a1 → Rt (some (.inl 0)) σ) ∧ (¬ a3 ≤ σ.2 103 0 a1 → Rt (some (.inl 1)) σ))) ∧ (¬ σ.2 102 0 a1 = a2 → Rt (some (.inl 0)) σ))))) : X 0 [some (.inr (some (0, 0))), some (.inl a1), some (.inl a2), some (.inl a3)] [] σ (0, 0) := by
  refine ru_ok hX (fun hok => ?_)
  replace h := h hok
  refine ru_aload_n hX dX0_isAhead_0 rfl (fun _ => ?_)
  refine ru_get (v := .inr (some (102, 0))) hX dX0_isAhead_1 rfl ⟨by decide, by decide⟩ rfl (fun _ => ?_)
  refine ru_iload_n hX dX0_isAhead_4 rfl (fun _ => ?_)
  obtain ⟨k1, h⟩ := h
  refine ru_iaload hX dX0_isAhead_5 ⟨by decide, by decide⟩ rfl k1 (fun _ => ?_)
  refine ru_iload_n hX dX0_isAhead_6 rfl (fun _ => ?_)
  obtain ⟨k2, h⟩ := h
  refine ru_icmp_lt (tgt := 30) hX dX0_isAhead_7 (by decide) (hok.2 _ _ _ (by decide) (by decide) (by decide) (by decide)) k2 (fun q => ?_) (fun q => ?_)
  · have q3 := q
    replace h := h.1 q3
    refine ru_iconst hX dX0_isAhead_30 (fun _ => ?_)
    refine ru_goto (tgt := 35) hX dX0_isAhead_31 (by decide) ?_
    exact ru_ireturn hX dX0_isAhead_35 (Or.inr ⟨rfl, by decide⟩) ⟨Nat.zero_le _, Nat.zero_le _⟩ (fun _ => h)
  · have q4 := q
    replace h := h.2 q4
    refine ru_aload_n hX dX0_isAhead_10 rfl (fun _ => ?_)
    refine ru_get (v := .inr (some (102, 0))) hX dX0_isAhead_11 rfl ⟨by decide, by decide⟩ rfl (fun _ => ?_)
    refine ru_iload_n hX dX0_isAhead_14 rfl (fun _ => ?_)
    refine ru_iaload hX dX0_isAhead_15 ⟨by decide, by decide⟩ rfl k1 (fun _ => ?_)
    refine ru_iload_n hX dX0_isAhead_16 rfl (fun _ => ?_)
    refine ru_icmp_ne (tgt := 34) hX dX0_isAhead_17 (by decide) (hok.2 _ _ _ (by decide) (by decide) (by decide) (by decide)) k2 (fun q => ?_) (fun q => ?_)
    · have q5 := q
      replace h := h.2 q5
      refine ru_iconst hX dX0_isAhead_34 (fun _ => ?_)
      exact ru_ireturn hX dX0_isAhead_35 (Or.inr ⟨rfl, by decide⟩) ⟨Nat.zero_le _, Nat.zero_le _⟩ (fun _ => h)
    · have q6 := q
      replace h := h.1 q6
      refine ru_aload_n hX dX0_isAhead_20 rfl (fun _ => ?_)
      refine ru_get (v := .inr (some (103, 0))) hX dX0_isAhead_21 rfl ⟨by decide, by decide⟩ rfl (fun _ => ?_)
      refine ru_iload_n hX dX0_isAhead_24 rfl (fun _ => ?_)
      refine ru_iaload hX dX0_isAhead_25 ⟨by decide, by decide⟩ rfl k1 (fun _ => ?_)
      refine ru_iload_n hX dX0_isAhead_26 rfl (fun _ => ?_)
      obtain ⟨k7, h⟩ := h
      refine ru_icmp_ge (tgt := 34) hX dX0_isAhead_27 (by decide) (hok.2 _ _ _ (by decide) (by decide) (by decide) (by decide)) k7 (fun q => ?_) (fun q => ?_)
      · have q8 := q
        replace h := h.1 q8
        refine ru_iconst hX dX0_isAhead_34 (fun _ => ?_)
        exact ru_ireturn hX dX0_isAhead_35 (Or.inr ⟨rfl, by decide⟩) ⟨Nat.zero_le _, Nat.zero_le _⟩ (fun _ => h)
      · have q9 := q
        replace h := h.2 q9
        refine ru_iconst hX dX0_isAhead_30 (fun _ => ?_)
        refine ru_goto (tgt := 35) hX dX0_isAhead_31 (by decide) ?_
        exact ru_ireturn hX dX0_isAhead_35 (Or.inr ⟨rfl, by decide⟩) ⟨Nat.zero_le _, Nat.zero_le _⟩ (fun _ => h)
theorem bX0_move_0 {cs ss : Nat → Option (Nat × eh_T)} {lim : Nat × Nat} {Rt : Option eh_V → eh_S → Prop} {X : eh_X} (hX : eh_Ru eh_nX eh_fl0 eh_kn0 cs ss lim Rt 2 cX0_move X) {T142 : eh_T} (hc142 : ss 142 = some (5, T142)) {σ : eh_S}  {a1 : Int} {a2 : Int}  (h : eh_ok σ → (0 ≤ a1 ∧ a1 < 1000) ∧ (0 ≤ a2 ∧ a2 < 1000) ∧ T142 [.inr (some (104, 0)), .inl (a1 * 4), .inr (some (104, 0)), .inl (a2 * 4), .inl 4] (eh_sA (eh_sA (eh_sA σ 101 0 a2 (σ.2 101 0 a1)) 102 0 a2 (σ.2 102 0 a1)) 103 0 a2 (σ.2 103 0 a1)) (0, 0) (fun r σ1 => X 54 [some (.inr (some (0, 0))), some (.inl a1), some (.inl a2)] (r.toList ++ []) σ1 (0, 0))) : X 0 [some (.inr (some (0, 0))), some (.inl a1), some (.inl a2)] [] σ (0, 0) := by
  refine ru_ok hX (fun hok => ?_)
  replace h := h hok
  refine ru_aload_n hX dX0_move_0 rfl (fun _ => ?_)
  refine ru_get (v := .inr (some (101, 0))) hX dX0_move_1 rfl ⟨by decide, by decide⟩ rfl (fun _ => ?_)
  refine ru_iload_n hX dX0_move_4 rfl (fun _ => ?_)
  refine ru_aload_n hX dX0_move_5 rfl (fun _ => ?_)
  refine ru_get (v := .inr (some (101, 0))) hX dX0_move_6 rfl ⟨by decide, by decide⟩ rfl (fun _ => ?_)
  refine ru_iload_n hX dX0_move_9 rfl (fun _ => ?_)
  obtain ⟨k1, h⟩ := h
  refine ru_iaload hX dX0_move_10 ⟨by decide, by decide⟩ rfl k1 (fun _ => ?_)
  obtain ⟨k2, h⟩ := h
  refine ru_iastore hX dX0_move_11 ⟨by decide, by decide⟩ rfl k2 (hok.2 _ _ _ (by decide) (by decide) (by decide) (by decide)) (fun _ => ?_)
  refine ru_aload_n hX dX0_move_12 rfl (fun hok3 => ?_)
  refine ru_get (v := .inr (some (102, 0))) hX dX0_move_13 rfl ⟨by decide, by decide⟩ rfl (fun _ => ?_)
  refine ru_iload_n hX dX0_move_16 rfl (fun _ => ?_)
  refine ru_aload_n hX dX0_move_17 rfl (fun _ => ?_)
  refine ru_get (v := .inr (some (102, 0))) hX dX0_move_18 rfl ⟨by decide, by decide⟩ rfl (fun _ => ?_)
  refine ru_iload_n hX dX0_move_21 rfl (fun _ => ?_)
  refine ru_iaload hX dX0_move_22 ⟨by decide, by decide⟩ rfl k1 (fun _ => ?_)
  refine ru_iastore hX dX0_move_23 ⟨by decide, by decide⟩ rfl k2 (hok.2 _ _ _ (by decide) (by decide) (by decide) (by decide)) (fun _ => ?_)
  refine ru_aload_n hX dX0_move_24 rfl (fun hok4 => ?_)
  refine ru_get (v := .inr (some (103, 0))) hX dX0_move_25 rfl ⟨by decide, by decide⟩ rfl (fun _ => ?_)
  refine ru_iload_n hX dX0_move_28 rfl (fun _ => ?_)
  refine ru_aload_n hX dX0_move_29 rfl (fun _ => ?_)
  refine ru_get (v := .inr (some (103, 0))) hX dX0_move_30 rfl ⟨by decide, by decide⟩ rfl (fun _ => ?_)
  refine ru_iload_n hX dX0_move_33 rfl (fun _ => ?_)
  refine ru_iaload hX dX0_move_34 ⟨by decide, by decide⟩ rfl k1 (fun _ => ?_)
  refine ru_iastore hX dX0_move_35 ⟨by decide, by decide⟩ rfl k2 (hok.2 _ _ _ (by decide) (by decide) (by decide) (by decide)) (fun _ => ?_)
  refine ru_aload_n hX dX0_move_36 rfl (fun hok5 => ?_)
  refine ru_get (v := .inr (some (104, 0))) hX dX0_move_37 rfl ⟨by decide, by decide⟩ rfl (fun _ => ?_)
  refine ru_iload_n hX dX0_move_40 rfl (fun _ => ?_)
  refine ru_iconst hX dX0_move_41 (fun _ => ?_)
  refine ru_imul hX dX0_move_42 (fun _ => ?_)
  refine ru_aload_n hX dX0_move_43 rfl (fun _ => ?_)
  refine ru_get (v := .inr (some (104, 0))) hX dX0_move_44 rfl ⟨by decide, by decide⟩ rfl (fun _ => ?_)
  refine ru_iload_n hX dX0_move_47 rfl (fun _ => ?_)
  refine ru_iconst hX dX0_move_48 (fun _ => ?_)
  refine ru_imul hX dX0_move_49 (fun _ => ?_)
  refine ru_iconst hX dX0_move_50 (fun _ => ?_)
  exact ru_callS (as := [.inr (some (104, 0)), .inl (a1 * 4), .inr (some (104, 0)), .inl (a2 * 4), .inl 4]) (rest := []) hX dX0_move_51 hc142 rfl (Nat.le_of_ble_eq_true rfl) (0, 0) ⟨Nat.zero_le _, Nat.zero_le _⟩ h
theorem bX0_move_54 {cs ss : Nat → Option (Nat × eh_T)} {lim : Nat × Nat} {Rt : Option eh_V → eh_S → Prop} {X : eh_X} (hX : eh_Ru eh_nX eh_fl0 eh_kn0 cs ss lim Rt 2 cX0_move X)  {σ : eh_S}  {o0 : Option eh_V} {o1 : Option eh_V} {o2 : Option eh_V}  (h : eh_ok σ → Rt none σ) : X 54 [o0, o1, o2] [] σ (0, 0) := by
  refine ru_ok hX (fun hok => ?_)
  replace h := h hok
  exact ru_return hX dX0_move_54 rfl ⟨Nat.zero_le _, Nat.zero_le _⟩ (fun _ => h)
theorem bX0_fields_0 {cs ss : Nat → Option (Nat × eh_T)} {lim : Nat × Nat} {Rt : Option eh_V → eh_S → Prop} {X : eh_X} (hX : eh_Ru eh_nX eh_fl0 eh_kn0 cs ss lim Rt 0 cX0_fields X) {T77 : eh_T} (hc77 : ss 77 = some (3, T77)) {σ : eh_S}  {a1 : Int} {a2 : Int} {a3 : Int} {a4 : Int}  (h : eh_ok σ → T77 [.inl a1, .inl (-1000), .inl 1000] σ (0, 0) (fun r σ1 => X 10 [some (.inr (some (0, 0))), some (.inl a1), some (.inl a2), some (.inl a3), some (.inl a4)] (r.toList ++ []) σ1 (0, 0))) : X 0 [some (.inr (some (0, 0))), some (.inl a1), some (.inl a2), some (.inl a3), some (.inl a4)] [] σ (0, 0) := by
  refine ru_ok hX (fun hok => ?_)
  replace h := h hok
  refine ru_iload_n hX dX0_fields_0 rfl (fun _ => ?_)
  refine ru_sipush hX dX0_fields_1 (by decide) (fun _ => ?_)
  refine ru_sipush hX dX0_fields_4 (by decide) (fun _ => ?_)
  exact ru_callS (as := [.inl a1, .inl (-1000), .inl 1000]) (rest := []) hX dX0_fields_7 hc77 rfl (Nat.le_of_ble_eq_true rfl) (0, 0) ⟨Nat.zero_le _, Nat.zero_le _⟩ h
theorem bX0_fields_10 {cs ss : Nat → Option (Nat × eh_T)} {lim : Nat × Nat} {Rt : Option eh_V → eh_S → Prop} {X : eh_X} (hX : eh_Ru eh_nX eh_fl0 eh_kn0 cs ss lim Rt 0 cX0_fields X) {T77 : eh_T} (hc77 : ss 77 = some (3, T77)) {σ : eh_S}  {a1 : Int} {a2 : Int} {a3 : Int} {a4 : Int} {s0 : Int}  (h : eh_ok σ → (-2147483648 ≤ s0 ∧ s0 < 2147483648) ∧ ((s0 = 0 → Rt (some (.inl (-1))) σ) ∧ (¬ s0 = 0 → T77 [.inl a2, .inl (-1000), .inl 1000] σ (0, 0) (fun r σ1 => X 23 [some (.inr (some (0, 0))), some (.inl a1), some (.inl a2), some (.inl a3), some (.inl a4)] (r.toList ++ []) σ1 (0, 0))))) : X 10 [some (.inr (some (0, 0))), some (.inl a1), some (.inl a2), some (.inl a3), some (.inl a4)] [.inl s0] σ (0, 0) := by
  refine ru_ok hX (fun hok => ?_)
  replace h := h hok
  obtain ⟨k1, h⟩ := h
  refine ru_if_eq (tgt := 53) hX dX0_fields_10 (by decide) k1 (fun q => ?_) (fun q => ?_)
  · have q2 := q
    replace h := h.1 q2
    refine ru_iconst hX dX0_fields_53 (fun _ => ?_)
    exact ru_ireturn hX dX0_fields_54 (Or.inl rfl) ⟨Nat.zero_le _, Nat.zero_le _⟩ (fun _ => h)
  · have q3 := q
    replace h := h.2 q3
    refine ru_iload_n hX dX0_fields_13 rfl (fun _ => ?_)
    refine ru_sipush hX dX0_fields_14 (by decide) (fun _ => ?_)
    refine ru_sipush hX dX0_fields_17 (by decide) (fun _ => ?_)
    exact ru_callS (as := [.inl a2, .inl (-1000), .inl 1000]) (rest := []) hX dX0_fields_20 hc77 rfl (Nat.le_of_ble_eq_true rfl) (0, 0) ⟨Nat.zero_le _, Nat.zero_le _⟩ h
theorem bX0_fields_23 {cs ss : Nat → Option (Nat × eh_T)} {lim : Nat × Nat} {Rt : Option eh_V → eh_S → Prop} {X : eh_X} (hX : eh_Ru eh_nX eh_fl0 eh_kn0 cs ss lim Rt 0 cX0_fields X) {T77 : eh_T} (hc77 : ss 77 = some (3, T77)) {σ : eh_S}  {a1 : Int} {a2 : Int} {a3 : Int} {a4 : Int} {s0 : Int}  (h : eh_ok σ → (-2147483648 ≤ s0 ∧ s0 < 2147483648) ∧ ((s0 = 0 → Rt (some (.inl (-1))) σ) ∧ (¬ s0 = 0 → T77 [.inl a3, .inl (-1000), .inl 1000] σ (0, 0) (fun r σ1 => X 36 [some (.inr (some (0, 0))), some (.inl a1), some (.inl a2), some (.inl a3), some (.inl a4)] (r.toList ++ []) σ1 (0, 0))))) : X 23 [some (.inr (some (0, 0))), some (.inl a1), some (.inl a2), some (.inl a3), some (.inl a4)] [.inl s0] σ (0, 0) := by
  refine ru_ok hX (fun hok => ?_)
  replace h := h hok
  obtain ⟨k1, h⟩ := h
  refine ru_if_eq (tgt := 53) hX dX0_fields_23 (by decide) k1 (fun q => ?_) (fun q => ?_)
  · have q2 := q
    replace h := h.1 q2
    refine ru_iconst hX dX0_fields_53 (fun _ => ?_)
    exact ru_ireturn hX dX0_fields_54 (Or.inl rfl) ⟨Nat.zero_le _, Nat.zero_le _⟩ (fun _ => h)
  · have q3 := q
    replace h := h.2 q3
    refine ru_iload_n hX dX0_fields_26 rfl (fun _ => ?_)
    refine ru_sipush hX dX0_fields_27 (by decide) (fun _ => ?_)
    refine ru_sipush hX dX0_fields_30 (by decide) (fun _ => ?_)
    exact ru_callS (as := [.inl a3, .inl (-1000), .inl 1000]) (rest := []) hX dX0_fields_33 hc77 rfl (Nat.le_of_ble_eq_true rfl) (0, 0) ⟨Nat.zero_le _, Nat.zero_le _⟩ h
theorem bX0_fields_36 {cs ss : Nat → Option (Nat × eh_T)} {lim : Nat × Nat} {Rt : Option eh_V → eh_S → Prop} {X : eh_X} (hX : eh_Ru eh_nX eh_fl0 eh_kn0 cs ss lim Rt 0 cX0_fields X) {T77 : eh_T} (hc77 : ss 77 = some (3, T77)) {σ : eh_S}  {a1 : Int} {a2 : Int} {a3 : Int} {a4 : Int} {s0 : Int}  (h : eh_ok σ → (-2147483648 ≤ s0 ∧ s0 < 2147483648) ∧ ((s0 = 0 → Rt (some (.inl (-1))) σ) ∧ (¬ s0 = 0 → T77 [.inl a4, .inl (-1000), .inl 1000] σ (0, 0) (fun r σ1 => X 50 [some (.inr (some (0, 0))), some (.inl a1), some (.inl a2), some (.inl a3), some (.inl a4)] (r.toList ++ []) σ1 (0, 0))))) : X 36 [some (.inr (some (0, 0))), some (.inl a1), some (.inl a2), some (.inl a3), some (.inl a4)] [.inl s0] σ (0, 0) := by
  refine ru_ok hX (fun hok => ?_)
  replace h := h hok
  obtain ⟨k1, h⟩ := h
  refine ru_if_eq (tgt := 53) hX dX0_fields_36 (by decide) k1 (fun q => ?_) (fun q => ?_)
  · have q2 := q
    replace h := h.1 q2
    refine ru_iconst hX dX0_fields_53 (fun _ => ?_)
    exact ru_ireturn hX dX0_fields_54 (Or.inl rfl) ⟨Nat.zero_le _, Nat.zero_le _⟩ (fun _ => h)
  · have q3 := q
    replace h := h.2 q3
    refine ru_iload hX dX0_fields_39 rfl (fun _ => ?_)
    refine ru_sipush hX dX0_fields_41 (by decide) (fun _ => ?_)
    refine ru_sipush hX dX0_fields_44 (by decide) (fun _ => ?_)
    exact ru_callS (as := [.inl a4, .inl (-1000), .inl 1000]) (rest := []) hX dX0_fields_47 hc77 rfl (Nat.le_of_ble_eq_true rfl) (0, 0) ⟨Nat.zero_le _, Nat.zero_le _⟩ h
theorem bX0_fields_50 {cs ss : Nat → Option (Nat × eh_T)} {lim : Nat × Nat} {Rt : Option eh_V → eh_S → Prop} {X : eh_X} (hX : eh_Ru eh_nX eh_fl0 eh_kn0 cs ss lim Rt 0 cX0_fields X)  {σ : eh_S}  {a1 : Int} {a2 : Int} {a3 : Int} {a4 : Int} {s0 : Int}  (h : eh_ok σ → (-2147483648 ≤ s0 ∧ s0 < 2147483648) ∧ ((s0 = 0 → Rt (some (.inl (-1))) σ) ∧ (¬ s0 = 0 → (-2147483648 ≤ a1 ∧ a1 < 2147483648) ∧ (-2147483648 ≤ a2 ∧ a2 < 2147483648) ∧ (-2147483648 ≤ a3 ∧ a3 < 2147483648) ∧ (-2147483648 ≤ a4 ∧ a4 < 2147483648) ∧ Rt (some (.inl 1)) (eh_sA (eh_sA (eh_sA (eh_sA σ 109 0 0 a1) 109 0 1 a2) 109 0 2 a3) 109 0 3 a4)))) : X 50 [some (.inr (some (0, 0))), some (.inl a1), some (.inl a2), some (.inl a3), some (.inl a4)] [.inl s0] σ (0, 0) := by
  refine ru_ok hX (fun hok => ?_)
  replace h := h hok
  obtain ⟨k1, h⟩ := h
  refine ru_if_ne (tgt := 55) hX dX0_fields_50 (by decide) k1 (fun q => ?_) (fun q => ?_)
  · have q2 := q
    replace h := h.2 q2
    refine ru_aload_n hX dX0_fields_55 rfl (fun _ => ?_)
    refine ru_get (v := .inr (some (109, 0))) hX dX0_fields_56 rfl ⟨by decide, by decide⟩ rfl (fun _ => ?_)
    refine ru_iconst hX dX0_fields_59 (fun _ => ?_)
    refine ru_iload_n hX dX0_fields_60 rfl (fun _ => ?_)
    obtain ⟨k3, h⟩ := h
    refine ru_iastore hX dX0_fields_61 ⟨by decide, by decide⟩ rfl ⟨by decide, by decide⟩ k3 (fun _ => ?_)
    refine ru_aload_n hX dX0_fields_62 rfl (fun hok4 => ?_)
    refine ru_get (v := .inr (some (109, 0))) hX dX0_fields_63 rfl ⟨by decide, by decide⟩ rfl (fun _ => ?_)
    refine ru_iconst hX dX0_fields_66 (fun _ => ?_)
    refine ru_iload_n hX dX0_fields_67 rfl (fun _ => ?_)
    obtain ⟨k5, h⟩ := h
    refine ru_iastore hX dX0_fields_68 ⟨by decide, by decide⟩ rfl ⟨by decide, by decide⟩ k5 (fun _ => ?_)
    refine ru_aload_n hX dX0_fields_69 rfl (fun hok6 => ?_)
    refine ru_get (v := .inr (some (109, 0))) hX dX0_fields_70 rfl ⟨by decide, by decide⟩ rfl (fun _ => ?_)
    refine ru_iconst hX dX0_fields_73 (fun _ => ?_)
    refine ru_iload_n hX dX0_fields_74 rfl (fun _ => ?_)
    obtain ⟨k7, h⟩ := h
    refine ru_iastore hX dX0_fields_75 ⟨by decide, by decide⟩ rfl ⟨by decide, by decide⟩ k7 (fun _ => ?_)
    refine ru_aload_n hX dX0_fields_76 rfl (fun hok8 => ?_)
    refine ru_get (v := .inr (some (109, 0))) hX dX0_fields_77 rfl ⟨by decide, by decide⟩ rfl (fun _ => ?_)
    refine ru_iconst hX dX0_fields_80 (fun _ => ?_)
    refine ru_iload hX dX0_fields_81 rfl (fun _ => ?_)
    obtain ⟨k9, h⟩ := h
    refine ru_iastore hX dX0_fields_83 ⟨by decide, by decide⟩ rfl ⟨by decide, by decide⟩ k9 (fun _ => ?_)
    refine ru_iconst hX dX0_fields_84 (fun hok10 => ?_)
    exact ru_ireturn hX dX0_fields_85 (Or.inl rfl) ⟨Nat.zero_le _, Nat.zero_le _⟩ (fun _ => h)
  · have q11 := q
    replace h := h.1 q11
    refine ru_iconst hX dX0_fields_53 (fun _ => ?_)
    exact ru_ireturn hX dX0_fields_54 (Or.inl rfl) ⟨Nat.zero_le _, Nat.zero_le _⟩ (fun _ => h)
theorem bX0_mark_0 {cs ss : Nat → Option (Nat × eh_T)} {lim : Nat × Nat} {Rt : Option eh_V → eh_S → Prop} {X : eh_X} (hX : eh_Ru eh_nX eh_fl0 eh_kn0 cs ss lim Rt 0 cX0_mark X) {T77 : eh_T} (hc77 : ss 77 = some (3, T77)) {σ : eh_S} {b : Nat × Nat} (hb : b.1 ≤ lim.1 ∧ b.2 ≤ lim.2) {a1 : Int} {o2 : Option eh_V} {o3 : Option eh_V} {o4 : Option eh_V}  (h : eh_ok σ → T77 [.inl a1, .inl 0, .inl 200000] σ (0, 0) (fun r σ1 => X 7 [some (.inr (some (0, 0))), some (.inl a1), o2, o3, o4] (r.toList ++ []) σ1 b)) : X 0 [some (.inr (some (0, 0))), some (.inl a1), o2, o3, o4] [] σ b := by
  refine ru_ok hX (fun hok => ?_)
  replace h := h hok
  refine ru_iload_n hX dX0_mark_0 rfl (fun _ => ?_)
  refine ru_iconst hX dX0_mark_1 (fun _ => ?_)
  refine ru_ldc hX dX0_mark_2 rfl (fun _ => ?_)
  exact ru_callS (as := [.inl a1, .inl 0, .inl 200000]) (rest := []) hX dX0_mark_4 hc77 rfl (Nat.le_of_ble_eq_true rfl) (0, 0) hb h
theorem bX0_mark_7 {cs ss : Nat → Option (Nat × eh_T)} {lim : Nat × Nat} {Rt : Option eh_V → eh_S → Prop} {X : eh_X} (hX : eh_Ru eh_nX eh_fl0 eh_kn0 cs ss lim Rt 0 cX0_mark X)  {σ : eh_S} {b : Nat × Nat} (hb : b.1 ≤ lim.1 ∧ b.2 ≤ lim.2) {a1 : Int} {o2 : Option eh_V} {o3 : Option eh_V} {o4 : Option eh_V} {s0 : Int}  (h : eh_ok σ → (-2147483648 ≤ s0 ∧ s0 < 2147483648) ∧ ((s0 = 0 → Rt (some (.inl (-1))) σ) ∧ (¬ s0 = 0 → (-2147483648 ≤ a1 ∧ a1 < 2147483648) ∧ ((σ.1 108 0 ≤ a1 → X 30 [some (.inr (some (0, 0))), some (.inl a1), some (.inl 0), o3, o4] [] (eh_sV σ 108 0 a1) b) ∧ (¬ σ.1 108 0 ≤ a1 → Rt (some (.inl (-5))) σ))))) : X 7 [some (.inr (some (0, 0))), some (.inl a1), o2, o3, o4] [.inl s0] σ b := by
  refine ru_ok hX (fun hok => ?_)
  replace h := h hok
  obtain ⟨k1, h⟩ := h
  refine ru_if_ne (tgt := 12) hX dX0_mark_7 (by decide) k1 (fun q => ?_) (fun q => ?_)
  · have q2 := q
    replace h := h.2 q2
    refine ru_iload_n hX dX0_mark_12 rfl (fun _ => ?_)
    refine ru_aload_n hX dX0_mark_13 rfl (fun _ => ?_)
    refine ru_get (v := .inl (σ.1 108 0)) hX dX0_mark_14 rfl ⟨by decide, by decide⟩ rfl (fun _ => ?_)
    obtain ⟨k3, h⟩ := h
    refine ru_icmp_ge (tgt := 23) hX dX0_mark_17 (by decide) k3 (hok.1 _ _) (fun q => ?_) (fun q => ?_)
    · have q4 := q
      replace h := h.1 q4
      refine ru_aload_n hX dX0_mark_23 rfl (fun _ => ?_)
      refine ru_iload_n hX dX0_mark_24 rfl (fun _ => ?_)
      refine ru_putI (id := 108) hX dX0_mark_25 rfl ⟨by decide, by decide⟩ rfl k3 rfl (fun _ => ?_)
      refine ru_iconst hX dX0_mark_28 (fun hok5 => ?_)
      refine ru_istore_n (ls1 := [some (.inr (some (0, 0))), some (.inl a1), some (.inl 0), o3, o4]) hX dX0_mark_29 (Nat.le_of_ble_eq_true rfl) rfl (fun _ => ?_)
      exact h
    · have q6 := q
      replace h := h.2 q6
      refine ru_bipush hX dX0_mark_20 (by decide) (fun _ => ?_)
      exact ru_ireturn hX dX0_mark_22 (Or.inl rfl) hb (fun _ => h)
  · have q7 := q
    replace h := h.1 q7
    refine ru_iconst hX dX0_mark_10 (fun _ => ?_)
    exact ru_ireturn hX dX0_mark_11 (Or.inl rfl) hb (fun _ => h)
theorem bX0_mark_30 {cs ss : Nat → Option (Nat × eh_T)} {lim : Nat × Nat} {Rt : Option eh_V → eh_S → Prop} {X : eh_X} (hX : eh_Ru eh_nX eh_fl0 eh_kn0 cs ss lim Rt 0 cX0_mark X)  {σ : eh_S} {b : Nat × Nat} (hb : b.1 ≤ lim.1 ∧ b.2 ≤ lim.2) {a1 : Int} {a2 : Int} {o3 : Option eh_V} {o4 : Option eh_V}  (h : eh_ok σ → ((σ.1 106 0 ≤ σ.1 105 0 → Rt (some (.inl a2)) σ) ∧ (¬ σ.1 106 0 ≤ σ.1 105 0 → (0 ≤ σ.1 105 0 ∧ σ.1 105 0 < 1000) ∧ (-2147483648 ≤ a1 ∧ a1 < 2147483648) ∧ ((a1 ≤ σ.2 102 0 (σ.1 105 0) → Rt (some (.inl a2)) σ) ∧ (¬ a1 ≤ σ.2 102 0 (σ.1 105 0) → (-2147483648 ≤ (σ.1 105 0) + 1 ∧ (σ.1 105 0) + 1 < 2147483648) ∧ X 74 [some (.inr (some (0, 0))), some (.inl a1), some (.inl (a2 + 1)), some (.inl (σ.1 105 0)), o4] [] (eh_sV (eh_sV σ 105 0 ((σ.1 105 0) + 1)) 116 0 0) b))))) : X 30 [some (.inr (some (0, 0))), some (.inl a1), some (.inl a2), o3, o4] [] σ b := by
  refine ru_ok hX (fun hok => ?_)
  replace h := h hok
  refine ru_aload_n hX dX0_mark_30 rfl (fun _ => ?_)
  refine ru_get (v := .inl (σ.1 105 0)) hX dX0_mark_31 rfl ⟨by decide, by decide⟩ rfl (fun _ => ?_)
  refine ru_aload_n hX dX0_mark_34 rfl (fun _ => ?_)
  refine ru_get (v := .inl (σ.1 106 0)) hX dX0_mark_35 rfl ⟨by decide, by decide⟩ rfl (fun _ => ?_)
  refine ru_icmp_ge (tgt := 143) hX dX0_mark_38 (by decide) (hok.1 _ _) (hok.1 _ _) (fun q => ?_) (fun q => ?_)
  · have q1 := q
    replace h := h.1 q1
    refine ru_iload_n hX dX0_mark_143 rfl (fun _ => ?_)
    exact ru_ireturn hX dX0_mark_144 (Or.inl rfl) hb (fun _ => h)
  · have q2 := q
    replace h := h.2 q2
    refine ru_aload_n hX dX0_mark_41 rfl (fun _ => ?_)
    refine ru_get (v := .inr (some (102, 0))) hX dX0_mark_42 rfl ⟨by decide, by decide⟩ rfl (fun _ => ?_)
    refine ru_aload_n hX dX0_mark_45 rfl (fun _ => ?_)
    refine ru_get (v := .inl (σ.1 105 0)) hX dX0_mark_46 rfl ⟨by decide, by decide⟩ rfl (fun _ => ?_)
    obtain ⟨k3, h⟩ := h
    refine ru_iaload hX dX0_mark_49 ⟨by decide, by decide⟩ rfl k3 (fun _ => ?_)
    refine ru_iload_n hX dX0_mark_50 rfl (fun _ => ?_)
    obtain ⟨k4, h⟩ := h
    refine ru_icmp_ge (tgt := 143) hX dX0_mark_51 (by decide) (hok.2 _ _ _ (by decide) (by decide) (by decide) (by decide)) k4 (fun q => ?_) (fun q => ?_)
    · have q5 := q
      replace h := h.1 q5
      refine ru_iload_n hX dX0_mark_143 rfl (fun _ => ?_)
      exact ru_ireturn hX dX0_mark_144 (Or.inl rfl) hb (fun _ => h)
    · have q6 := q
      replace h := h.2 q6
      refine ru_aload_n hX dX0_mark_54 rfl (fun _ => ?_)
      refine ru_dup hX dX0_mark_55 (fun _ => ?_)
      refine ru_get (v := .inl (σ.1 105 0)) hX dX0_mark_56 rfl ⟨by decide, by decide⟩ rfl (fun _ => ?_)
      refine ru_dup_x1 hX dX0_mark_59 (fun _ => ?_)
      refine ru_iconst hX dX0_mark_60 (fun _ => ?_)
      refine ru_iadd hX dX0_mark_61 (fun _ => ?_)
      obtain ⟨k7, h⟩ := h
      refine ru_putI (id := 105) hX dX0_mark_62 rfl ⟨by decide, by decide⟩ rfl k7 rfl (fun _ => ?_)
      refine ru_istore_n (ls1 := [some (.inr (some (0, 0))), some (.inl a1), some (.inl a2), some (.inl (σ.1 105 0)), o4]) hX dX0_mark_65 (Nat.le_of_ble_eq_true rfl) rfl (fun hok8 => ?_)
      refine ru_iinc (ls1 := [some (.inr (some (0, 0))), some (.inl a1), some (.inl (a2 + 1)), some (.inl (σ.1 105 0)), o4]) hX dX0_mark_66 rfl rfl (fun _ => ?_)
      refine ru_aload_n hX dX0_mark_69 rfl (fun _ => ?_)
      refine ru_iconst hX dX0_mark_70 (fun _ => ?_)
      refine ru_putI (id := 116) hX dX0_mark_71 rfl ⟨by decide, by decide⟩ rfl (by unfold eh_r; decide) rfl (fun _ => ?_)
      exact h
theorem bX0_mark_74 {cs ss : Nat → Option (Nat × eh_T)} {lim : Nat × Nat} {Rt : Option eh_V → eh_S → Prop} {X : eh_X} (hX : eh_Ru eh_nX eh_fl0 eh_kn0 cs ss lim Rt 0 cX0_mark X) {T155 : eh_T} (hc155 : cs 155 = some (2, T155)) {σ : eh_S} {b : Nat × Nat} (hb : b.1 ≤ lim.1 ∧ b.2 ≤ lim.2) {a1 : Int} {a2 : Int} {a3 : Int} {o4 : Option eh_V}  (h : eh_ok σ → ((σ.1 118 0 ≤ σ.1 116 0 → X 30 [some (.inr (some (0, 0))), some (.inl a1), some (.inl a2), some (.inl a3), o4] [] σ b) ∧ (¬ σ.1 118 0 ≤ σ.1 116 0 → (0 ≤ σ.1 116 0 ∧ σ.1 116 0 < 8) ∧ ((σ.1 403 (σ.1 116 0) = 0 → X 127 [some (.inr (some (0, 0))), some (.inl a1), some (.inl a2), some (.inl a3), some (.inr (some (3, σ.1 116 0)))] [] σ b) ∧ (¬ σ.1 403 (σ.1 116 0) = 0 → ((σ.1 410 (σ.1 116 0) = 0 → ∃ bd8 : Nat × Nat, (b.1 + bd8.1 ≤ lim.1 ∧ b.2 + bd8.2 ≤ lim.2) ∧ T155 [.inr (some (3, σ.1 116 0)), .inl a3] (eh_sV σ 409 (σ.1 116 0) 1) bd8 (fun r σ1 => X 127 [some (.inr (some (0, 0))), some (.inl a1), some (.inl a2), some (.inl a3), some (.inr (some (3, σ.1 116 0)))] (r.toList ++ []) σ1 (b.1 + bd8.1, b.2 + bd8.2))) ∧ (¬ σ.1 410 (σ.1 116 0) = 0 → X 127 [some (.inr (some (0, 0))), some (.inl a1), some (.inl a2), some (.inl a3), some (.inr (some (3, σ.1 116 0)))] [] (eh_sV σ 409 (σ.1 116 0) 1) b))))))) : X 74 [some (.inr (some (0, 0))), some (.inl a1), some (.inl a2), some (.inl a3), o4] [] σ b := by
  refine ru_ok hX (fun hok => ?_)
  replace h := h hok
  refine ru_aload_n hX dX0_mark_74 rfl (fun _ => ?_)
  refine ru_get (v := .inl (σ.1 116 0)) hX dX0_mark_75 rfl ⟨by decide, by decide⟩ rfl (fun _ => ?_)
  refine ru_aload_n hX dX0_mark_78 rfl (fun _ => ?_)
  refine ru_get (v := .inl (σ.1 118 0)) hX dX0_mark_79 rfl ⟨by decide, by decide⟩ rfl (fun _ => ?_)
  refine ru_icmp_ge (tgt := 140) hX dX0_mark_82 (by decide) (hok.1 _ _) (hok.1 _ _) (fun q => ?_) (fun q => ?_)
  · have q1 := q
    replace h := h.1 q1
    refine ru_goto (tgt := 30) hX dX0_mark_140 (by decide) ?_
    exact h
  · have q2 := q
    replace h := h.2 q2
    refine ru_aload_n hX dX0_mark_85 rfl (fun _ => ?_)
    refine ru_get (v := .inr (some (117, 0))) hX dX0_mark_86 rfl ⟨by decide, by decide⟩ rfl (fun _ => ?_)
    refine ru_aload_n hX dX0_mark_89 rfl (fun _ => ?_)
    refine ru_get (v := .inl (σ.1 116 0)) hX dX0_mark_90 rfl ⟨by decide, by decide⟩ rfl (fun _ => ?_)
    obtain ⟨k3, h⟩ := h
    refine ru_paload hX dX0_mark_93 ⟨by decide, by decide⟩ k3 (fun _ => ?_)
    refine ru_astore (ls1 := [some (.inr (some (0, 0))), some (.inl a1), some (.inl a2), some (.inl a3), some (.inr (some (3, σ.1 116 0)))]) hX dX0_mark_94 (Nat.le_of_ble_eq_true rfl) rfl (fun _ => ?_)
    refine ru_aload hX dX0_mark_96 rfl (fun _ => ?_)
    refine ru_get (v := .inl (σ.1 403 (σ.1 116 0))) hX dX0_mark_98 rfl k3 rfl (fun _ => ?_)
    refine ru_if_ne (tgt := 107) hX dX0_mark_101 (by decide) (hok.1 _ _) (fun q => ?_) (fun q => ?_)
    · have q4 := q
      replace h := h.2 q4
      refine ru_aload hX dX0_mark_107 rfl (fun _ => ?_)
      refine ru_iconst hX dX0_mark_109 (fun _ => ?_)
      refine ru_putZ (id := 409) hX dX0_mark_110 rfl k3 rfl (by decide) rfl (fun _ => ?_)
      refine ru_aload hX dX0_mark_113 rfl (fun hok5 => ?_)
      refine ru_get (v := .inl (σ.1 410 (σ.1 116 0))) hX dX0_mark_115 rfl k3 rfl (fun _ => ?_)
      refine ru_if_ne (tgt := 127) hX dX0_mark_118 (by decide) (hok.1 _ _) (fun q => ?_) (fun q => ?_)
      · have q6 := q
        replace h := h.2 q6
        exact h
      · have q7 := q
        replace h := h.1 q7
        refine ru_aload hX dX0_mark_121 rfl (fun _ => ?_)
        refine ru_iload_n hX dX0_mark_123 rfl (fun _ => ?_)
        obtain ⟨bd8, hbd, h⟩ := h
        exact ru_callV (as := [.inr (some (3, σ.1 116 0)), .inl a3]) (rest := []) hX dX0_mark_124 hc155 rfl (Nat.le_of_ble_eq_true rfl) bd8 hbd h
    · have q9 := q
      replace h := h.1 q9
      refine ru_goto (tgt := 127) hX dX0_mark_104 (by decide) ?_
      exact h
theorem bX0_mark_127 {cs ss : Nat → Option (Nat × eh_T)} {lim : Nat × Nat} {Rt : Option eh_V → eh_S → Prop} {X : eh_X} (hX : eh_Ru eh_nX eh_fl0 eh_kn0 cs ss lim Rt 0 cX0_mark X)  {σ : eh_S} {b : Nat × Nat} (hb : b.1 ≤ lim.1 ∧ b.2 ≤ lim.2) {a1 : Int} {a2 : Int} {a3 : Int} {o4 : Option eh_V}  (h : eh_ok σ → (-2147483648 ≤ (σ.1 116 0) + 1 ∧ (σ.1 116 0) + 1 < 2147483648) ∧ X 74 [some (.inr (some (0, 0))), some (.inl a1), some (.inl a2), some (.inl a3), o4] [] (eh_sV σ 116 0 ((σ.1 116 0) + 1)) b) : X 127 [some (.inr (some (0, 0))), some (.inl a1), some (.inl a2), some (.inl a3), o4] [] σ b := by
  refine ru_ok hX (fun hok => ?_)
  replace h := h hok
  refine ru_aload_n hX dX0_mark_127 rfl (fun _ => ?_)
  refine ru_dup hX dX0_mark_128 (fun _ => ?_)
  refine ru_get (v := .inl (σ.1 116 0)) hX dX0_mark_129 rfl ⟨by decide, by decide⟩ rfl (fun _ => ?_)
  refine ru_iconst hX dX0_mark_132 (fun _ => ?_)
  refine ru_iadd hX dX0_mark_133 (fun _ => ?_)
  obtain ⟨k1, h⟩ := h
  refine ru_putI (id := 116) hX dX0_mark_134 rfl ⟨by decide, by decide⟩ rfl k1 rfl (fun _ => ?_)
  refine ru_goto (tgt := 74) hX dX0_mark_137 (by decide) ?_
  exact h
theorem bX0_isKind_0 {cs ss : Nat → Option (Nat × eh_T)} {lim : Nat × Nat} {Rt : Option eh_V → eh_S → Prop} {X : eh_X} (hX : eh_Ru eh_nX eh_fl0 eh_kn0 cs ss lim Rt 1 cX0_isKind X)  {σ : eh_S}  {a1 : Int} {a2 : Int} {o3 : Option eh_V}  (h : eh_ok σ → X 2 [some (.inr (some (0, 0))), some (.inl a1), some (.inl a2), some (.inl a1)] [] σ (0, 0)) : X 0 [some (.inr (some (0, 0))), some (.inl a1), some (.inl a2), o3] [] σ (0, 0) := by
  refine ru_ok hX (fun hok => ?_)
  replace h := h hok
  refine ru_iload_n hX dX0_isKind_0 rfl (fun _ => ?_)
  refine ru_istore_n (ls1 := [some (.inr (some (0, 0))), some (.inl a1), some (.inl a2), some (.inl a1)]) hX dX0_isKind_1 (Nat.le_of_ble_eq_true rfl) rfl (fun _ => ?_)
  exact h
theorem bX0_isKind_2 {cs ss : Nat → Option (Nat × eh_T)} {lim : Nat × Nat} {Rt : Option eh_V → eh_S → Prop} {X : eh_X} (hX : eh_Ru eh_nX eh_fl0 eh_kn0 cs ss lim Rt 1 cX0_isKind X)  {σ : eh_S}  {o1 : Option eh_V} {a2 : Int} {a3 : Int}  (h : eh_ok σ → (-2147483648 ≤ a3 ∧ a3 < 2147483648) ∧ ((a3 = (-1) → (-2147483648 ≤ a2 ∧ a2 < 2147483648) ∧ ((a3 = a2 → Rt (some (.inl 1)) σ) ∧ (¬ a3 = a2 → Rt (some (.inl 0)) σ))) ∧ (¬ a3 = (-1) → (-2147483648 ≤ a2 ∧ a2 < 2147483648) ∧ ((a3 = a2 → Rt (some (.inl 1)) σ) ∧ (¬ a3 = a2 → (0 ≤ a3 ∧ a3 < 16) ∧ X 2 [some (.inr (some (0, 0))), o1, some (.inl a2), some (.inl (σ.2 100 0 a3))] [] σ (0, 0)))))) : X 2 [some (.inr (some (0, 0))), o1, some (.inl a2), some (.inl a3)] [] σ (0, 0) := by
  refine ru_ok hX (fun hok => ?_)
  replace h := h hok
  refine ru_iload_n hX dX0_isKind_2 rfl (fun _ => ?_)
  refine ru_iconst hX dX0_isKind_3 (fun _ => ?_)
  obtain ⟨k1, h⟩ := h
  refine ru_icmp_eq (tgt := 22) hX dX0_isKind_4 (by decide) k1 (by unfold eh_r; decide) (fun q => ?_) (fun q => ?_)
  · have q2 := q
    replace h := h.1 q2
    refine ru_iload_n hX dX0_isKind_22 rfl (fun _ => ?_)
    refine ru_iload_n hX dX0_isKind_23 rfl (fun _ => ?_)
    obtain ⟨k3, h⟩ := h
    refine ru_icmp_ne (tgt := 31) hX dX0_isKind_24 (by decide) k1 k3 (fun q => ?_) (fun q => ?_)
    · have q4 := q
      replace h := h.2 q4
      refine ru_iconst hX dX0_isKind_31 (fun _ => ?_)
      exact ru_ireturn hX dX0_isKind_32 (Or.inr ⟨rfl, by decide⟩) ⟨Nat.zero_le _, Nat.zero_le _⟩ (fun _ => h)
    · have q5 := q
      replace h := h.1 q5
      refine ru_iconst hX dX0_isKind_27 (fun _ => ?_)
      refine ru_goto (tgt := 32) hX dX0_isKind_28 (by decide) ?_
      exact ru_ireturn hX dX0_isKind_32 (Or.inr ⟨rfl, by decide⟩) ⟨Nat.zero_le _, Nat.zero_le _⟩ (fun _ => h)
  · have q6 := q
    replace h := h.2 q6
    refine ru_iload_n hX dX0_isKind_7 rfl (fun _ => ?_)
    refine ru_iload_n hX dX0_isKind_8 rfl (fun _ => ?_)
    obtain ⟨k7, h⟩ := h
    refine ru_icmp_eq (tgt := 22) hX dX0_isKind_9 (by decide) k1 k7 (fun q => ?_) (fun q => ?_)
    · have q8 := q
      replace h := h.1 q8
      refine ru_iload_n hX dX0_isKind_22 rfl (fun _ => ?_)
      refine ru_iload_n hX dX0_isKind_23 rfl (fun _ => ?_)
      refine ru_icmp_ne (tgt := 31) hX dX0_isKind_24 (by decide) k1 k7 (fun q => ?_) (fun q => ?_)
      · exact absurd q8 q
      clear q
      refine ru_iconst hX dX0_isKind_27 (fun _ => ?_)
      refine ru_goto (tgt := 32) hX dX0_isKind_28 (by decide) ?_
      exact ru_ireturn hX dX0_isKind_32 (Or.inr ⟨rfl, by decide⟩) ⟨Nat.zero_le _, Nat.zero_le _⟩ (fun _ => h)
    · have q9 := q
      replace h := h.2 q9
      refine ru_aload_n hX dX0_isKind_12 rfl (fun _ => ?_)
      refine ru_get (v := .inr (some (100, 0))) hX dX0_isKind_13 rfl ⟨by decide, by decide⟩ rfl (fun _ => ?_)
      refine ru_iload_n hX dX0_isKind_16 rfl (fun _ => ?_)
      obtain ⟨k10, h⟩ := h
      refine ru_iaload hX dX0_isKind_17 ⟨by decide, by decide⟩ rfl k10 (fun _ => ?_)
      refine ru_istore_n (ls1 := [some (.inr (some (0, 0))), o1, some (.inl a2), some (.inl (σ.2 100 0 a3))]) hX dX0_isKind_18 (Nat.le_of_ble_eq_true rfl) rfl (fun _ => ?_)
      refine ru_goto (tgt := 2) hX dX0_isKind_19 (by decide) ?_
      exact h
theorem bX0_matches_0 {cs ss : Nat → Option (Nat × eh_T)} {lim : Nat × Nat} {Rt : Option eh_V → eh_S → Prop} {X : eh_X} (hX : eh_Ru eh_nX eh_fl0 eh_kn0 cs ss lim Rt 0 cX0_matches X) {T99 : eh_T} (hc99 : cs 99 = some (2, T99)) {σ : eh_S}  {a1 : Int}  (h : eh_ok σ → (-2147483648 ≤ a1 ∧ a1 < 2147483648) ∧ ((a1 = (-1) → Rt (some (.inl (σ.1 115 0))) σ) ∧ (¬ a1 = (-1) → T99 [.inr (some (0, 0)), .inl a1] σ (0, 0) (fun r σ1 => X 17 [some (.inr (some (0, 0))), some (.inl a1)] (r.toList ++ []) σ1 (0, 0))))) : X 0 [some (.inr (some (0, 0))), some (.inl a1)] [] σ (0, 0) := by
  refine ru_ok hX (fun hok => ?_)
  replace h := h hok
  refine ru_iload_n hX dX0_matches_0 rfl (fun _ => ?_)
  refine ru_iconst hX dX0_matches_1 (fun _ => ?_)
  obtain ⟨k1, h⟩ := h
  refine ru_icmp_ne (tgt := 12) hX dX0_matches_2 (by decide) k1 (by unfold eh_r; decide) (fun q => ?_) (fun q => ?_)
  · have q2 := q
    replace h := h.2 q2
    refine ru_aload_n hX dX0_matches_12 rfl (fun _ => ?_)
    refine ru_iload_n hX dX0_matches_13 rfl (fun _ => ?_)
    exact ru_callV (as := [.inr (some (0, 0)), .inl a1]) (rest := []) hX dX0_matches_14 hc99 rfl (Nat.le_of_ble_eq_true rfl) (0, 0) ⟨Nat.zero_le _, Nat.zero_le _⟩ h
  · have q3 := q
    replace h := h.1 q3
    refine ru_aload_n hX dX0_matches_5 rfl (fun _ => ?_)
    refine ru_get (v := .inl (σ.1 115 0)) hX dX0_matches_6 rfl ⟨by decide, by decide⟩ rfl (fun _ => ?_)
    refine ru_goto (tgt := 33) hX dX0_matches_9 (by decide) ?_
    exact ru_ireturn hX dX0_matches_33 (Or.inl rfl) ⟨Nat.zero_le _, Nat.zero_le _⟩ (fun _ => h)
theorem bX0_matches_17 {cs ss : Nat → Option (Nat × eh_T)} {lim : Nat × Nat} {Rt : Option eh_V → eh_S → Prop} {X : eh_X} (hX : eh_Ru eh_nX eh_fl0 eh_kn0 cs ss lim Rt 0 cX0_matches X)  {σ : eh_S}  {a1 : Int} {s0 : Int}  (h : eh_ok σ → (-2147483648 ≤ s0 ∧ s0 < 2147483648) ∧ ((s0 = 0 → Rt (some (.inl (-1))) σ) ∧ (¬ s0 = 0 → (0 ≤ a1 ∧ a1 < 8) ∧ Rt (some (.inl (σ.1 412 a1))) σ))) : X 17 [some (.inr (some (0, 0))), some (.inl a1)] [.inl s0] σ (0, 0) := by
  refine ru_ok hX (fun hok => ?_)
  replace h := h hok
  obtain ⟨k1, h⟩ := h
  refine ru_if_eq (tgt := 32) hX dX0_matches_17 (by decide) k1 (fun q => ?_) (fun q => ?_)
  · have q2 := q
    replace h := h.1 q2
    refine ru_iconst hX dX0_matches_32 (fun _ => ?_)
    exact ru_ireturn hX dX0_matches_33 (Or.inl rfl) ⟨Nat.zero_le _, Nat.zero_le _⟩ (fun _ => h)
  · have q3 := q
    replace h := h.2 q3
    refine ru_aload_n hX dX0_matches_20 rfl (fun _ => ?_)
    refine ru_get (v := .inr (some (117, 0))) hX dX0_matches_21 rfl ⟨by decide, by decide⟩ rfl (fun _ => ?_)
    refine ru_iload_n hX dX0_matches_24 rfl (fun _ => ?_)
    obtain ⟨k4, h⟩ := h
    refine ru_paload hX dX0_matches_25 ⟨by decide, by decide⟩ k4 (fun _ => ?_)
    refine ru_get (v := .inl (σ.1 412 a1)) hX dX0_matches_26 rfl k4 rfl (fun _ => ?_)
    refine ru_goto (tgt := 33) hX dX0_matches_29 (by decide) ?_
    exact ru_ireturn hX dX0_matches_33 (Or.inl rfl) ⟨Nat.zero_le _, Nat.zero_le _⟩ (fun _ => h)
theorem bX0_match_0 {cs ss : Nat → Option (Nat × eh_T)} {lim : Nat × Nat} {Rt : Option eh_V → eh_S → Prop} {X : eh_X} (hX : eh_Ru eh_nX eh_fl0 eh_kn0 cs ss lim Rt 0 cX0_match X) {T171 : eh_T} (hc171 : cs 171 = some (2, T171)) {σ : eh_S}  {a1 : Int} {a2 : Int}  (h : eh_ok σ → T171 [.inr (some (0, 0)), .inl a1] σ (0, 0) (fun r σ1 => X 5 [some (.inr (some (0, 0))), some (.inl a1), some (.inl a2)] (r.toList ++ []) σ1 (0, 0))) : X 0 [some (.inr (some (0, 0))), some (.inl a1), some (.inl a2)] [] σ (0, 0) := by
  refine ru_ok hX (fun hok => ?_)
  replace h := h hok
  refine ru_aload_n hX dX0_match_0 rfl (fun _ => ?_)
  refine ru_iload_n hX dX0_match_1 rfl (fun _ => ?_)
  exact ru_callV (as := [.inr (some (0, 0)), .inl a1]) (rest := []) hX dX0_match_2 hc171 rfl (Nat.le_of_ble_eq_true rfl) (0, 0) ⟨Nat.zero_le _, Nat.zero_le _⟩ h
theorem bX0_match_5 {cs ss : Nat → Option (Nat × eh_T)} {lim : Nat × Nat} {Rt : Option eh_V → eh_S → Prop} {X : eh_X} (hX : eh_Ru eh_nX eh_fl0 eh_kn0 cs ss lim Rt 0 cX0_match X) {T77 : eh_T} (hc77 : ss 77 = some (3, T77)) {σ : eh_S}  {a1 : Int} {a2 : Int} {s0 : Int}  (h : eh_ok σ → (-2147483648 ≤ s0 ∧ s0 < 2147483648) ∧ ((s0 = 0 → Rt (some (.inl (-1))) σ) ∧ (¬ s0 = 0 → T77 [.inl a2, .inl 0, .inl 3] σ (0, 0) (fun r σ1 => X 14 [some (.inr (some (0, 0))), some (.inl a1), some (.inl a2)] (r.toList ++ []) σ1 (0, 0))))) : X 5 [some (.inr (some (0, 0))), some (.inl a1), some (.inl a2)] [.inl s0] σ (0, 0) := by
  refine ru_ok hX (fun hok => ?_)
  replace h := h hok
  obtain ⟨k1, h⟩ := h
  refine ru_if_eq (tgt := 17) hX dX0_match_5 (by decide) k1 (fun q => ?_) (fun q => ?_)
  · have q2 := q
    replace h := h.1 q2
    refine ru_iconst hX dX0_match_17 (fun _ => ?_)
    exact ru_ireturn hX dX0_match_18 (Or.inl rfl) ⟨Nat.zero_le _, Nat.zero_le _⟩ (fun _ => h)
  · have q3 := q
    replace h := h.2 q3
    refine ru_iload_n hX dX0_match_8 rfl (fun _ => ?_)
    refine ru_iconst hX dX0_match_9 (fun _ => ?_)
    refine ru_iconst hX dX0_match_10 (fun _ => ?_)
    exact ru_callS (as := [.inl a2, .inl 0, .inl 3]) (rest := []) hX dX0_match_11 hc77 rfl (Nat.le_of_ble_eq_true rfl) (0, 0) ⟨Nat.zero_le _, Nat.zero_le _⟩ h
theorem bX0_match_14 {cs ss : Nat → Option (Nat × eh_T)} {lim : Nat × Nat} {Rt : Option eh_V → eh_S → Prop} {X : eh_X} (hX : eh_Ru eh_nX eh_fl0 eh_kn0 cs ss lim Rt 0 cX0_match X)  {σ : eh_S}  {a1 : Int} {a2 : Int} {s0 : Int}  (h : eh_ok σ → (-2147483648 ≤ s0 ∧ s0 < 2147483648) ∧ ((s0 = 0 → Rt (some (.inl (-1))) σ) ∧ (¬ s0 = 0 → (-2147483648 ≤ a2 ∧ a2 < 2147483648) ∧ ((a2 = 0 → (0 ≤ a1 ∧ a1 < 1000) ∧ Rt (some (.inl (σ.2 111 0 a1))) σ) ∧ (¬ a2 = 0 → ((a2 = 1 → (0 ≤ a1 ∧ a1 < 1000) ∧ Rt (some (.inl (σ.2 112 0 a1))) σ) ∧ (¬ a2 = 1 → ((a2 = 2 → (0 ≤ a1 ∧ a1 < 1000) ∧ (0 ≤ σ.2 113 0 a1) ∧ ∃ j13 : Int, (0 ≤ j13 ∧ j13 < σ.1 10 0) ∧ σ.2 12 0 j13 = σ.2 113 0 a1 ∧ (0 ≤ (0 : Int) ∧ 0 < σ.2 14 0 j13) ∧ Rt (some (.inl (σ.2 10 j13 0))) σ) ∧ (¬ a2 = 2 → (0 ≤ a1 ∧ a1 < 1000) ∧ (0 ≤ σ.2 113 0 a1) ∧ ∃ j9 : Int, (0 ≤ j9 ∧ j9 < σ.1 10 0) ∧ σ.2 12 0 j9 = σ.2 113 0 a1 ∧ (0 ≤ (σ.2 112 0 a1) - 1 ∧ (σ.2 112 0 a1) - 1 < σ.2 14 0 j9) ∧ Rt (some (.inl (σ.2 10 j9 ((σ.2 112 0 a1) - 1)))) σ))))))))) : X 14 [some (.inr (some (0, 0))), some (.inl a1), some (.inl a2)] [.inl s0] σ (0, 0) := by
  refine ru_ok hX (fun hok => ?_)
  replace h := h hok
  obtain ⟨k1, h⟩ := h
  refine ru_if_ne (tgt := 19) hX dX0_match_14 (by decide) k1 (fun q => ?_) (fun q => ?_)
  · have q2 := q
    replace h := h.2 q2
    refine ru_iload_n hX dX0_match_19 rfl (fun _ => ?_)
    obtain ⟨k3, h⟩ := h
    refine ru_if_ne (tgt := 32) hX dX0_match_20 (by decide) k3 (fun q => ?_) (fun q => ?_)
    · have q4 := q
      replace h := h.2 q4
      refine ru_iload_n hX dX0_match_32 rfl (fun _ => ?_)
      refine ru_iconst hX dX0_match_33 (fun _ => ?_)
      refine ru_icmp_ne (tgt := 46) hX dX0_match_34 (by decide) k3 (by unfold eh_r; decide) (fun q => ?_) (fun q => ?_)
      · have q5 := q
        replace h := h.2 q5
        refine ru_iload_n hX dX0_match_46 rfl (fun _ => ?_)
        refine ru_iconst hX dX0_match_47 (fun _ => ?_)
        refine ru_icmp_ne (tgt := 62) hX dX0_match_48 (by decide) k3 (by unfold eh_r; decide) (fun q => ?_) (fun q => ?_)
        · have q6 := q
          replace h := h.2 q6
          refine ru_aload_n hX dX0_match_62 rfl (fun _ => ?_)
          refine ru_get (v := .inr (some (113, 0))) hX dX0_match_63 rfl ⟨by decide, by decide⟩ rfl (fun _ => ?_)
          refine ru_iload_n hX dX0_match_66 rfl (fun _ => ?_)
          obtain ⟨k7, h⟩ := h
          obtain ⟨k8, h⟩ := h
          refine ru_raload hX dX0_match_67 ⟨by decide, by decide⟩ (by decide) k7 k8 (fun _ => ?_)
          refine ru_aload_n hX dX0_match_68 rfl (fun _ => ?_)
          refine ru_get (v := .inr (some (112, 0))) hX dX0_match_69 rfl ⟨by decide, by decide⟩ rfl (fun _ => ?_)
          refine ru_iload_n hX dX0_match_72 rfl (fun _ => ?_)
          refine ru_iaload hX dX0_match_73 ⟨by decide, by decide⟩ rfl k7 (fun _ => ?_)
          refine ru_iconst hX dX0_match_74 (fun _ => ?_)
          refine ru_isub hX dX0_match_75 (fun _ => ?_)
          obtain ⟨j9, hj1, hj2, hj3, h⟩ := h
          refine ru_saload hX dX0_match_76 (by decide) hj1 hj2 hj3 (fun _ => ?_)
          exact ru_ireturn hX dX0_match_77 (Or.inl rfl) ⟨Nat.zero_le _, Nat.zero_le _⟩ (fun _ => h)
        · have q10 := q
          replace h := h.1 q10
          refine ru_aload_n hX dX0_match_51 rfl (fun _ => ?_)
          refine ru_get (v := .inr (some (113, 0))) hX dX0_match_52 rfl ⟨by decide, by decide⟩ rfl (fun _ => ?_)
          refine ru_iload_n hX dX0_match_55 rfl (fun _ => ?_)
          obtain ⟨k11, h⟩ := h
          obtain ⟨k12, h⟩ := h
          refine ru_raload hX dX0_match_56 ⟨by decide, by decide⟩ (by decide) k11 k12 (fun _ => ?_)
          refine ru_iconst hX dX0_match_57 (fun _ => ?_)
          obtain ⟨j13, hj1, hj2, hj3, h⟩ := h
          refine ru_saload hX dX0_match_58 (by decide) hj1 hj2 hj3 (fun _ => ?_)
          refine ru_goto (tgt := 77) hX dX0_match_59 (by decide) ?_
          exact ru_ireturn hX dX0_match_77 (Or.inl rfl) ⟨Nat.zero_le _, Nat.zero_le _⟩ (fun _ => h)
      · have q14 := q
        replace h := h.1 q14
        refine ru_aload_n hX dX0_match_37 rfl (fun _ => ?_)
        refine ru_get (v := .inr (some (112, 0))) hX dX0_match_38 rfl ⟨by decide, by decide⟩ rfl (fun _ => ?_)
        refine ru_iload_n hX dX0_match_41 rfl (fun _ => ?_)
        obtain ⟨k15, h⟩ := h
        refine ru_iaload hX dX0_match_42 ⟨by decide, by decide⟩ rfl k15 (fun _ => ?_)
        refine ru_goto (tgt := 77) hX dX0_match_43 (by decide) ?_
        exact ru_ireturn hX dX0_match_77 (Or.inl rfl) ⟨Nat.zero_le _, Nat.zero_le _⟩ (fun _ => h)
    · have q16 := q
      replace h := h.1 q16
      refine ru_aload_n hX dX0_match_23 rfl (fun _ => ?_)
      refine ru_get (v := .inr (some (111, 0))) hX dX0_match_24 rfl ⟨by decide, by decide⟩ rfl (fun _ => ?_)
      refine ru_iload_n hX dX0_match_27 rfl (fun _ => ?_)
      obtain ⟨k17, h⟩ := h
      refine ru_iaload hX dX0_match_28 ⟨by decide, by decide⟩ rfl k17 (fun _ => ?_)
      refine ru_goto (tgt := 77) hX dX0_match_29 (by decide) ?_
      exact ru_ireturn hX dX0_match_77 (Or.inl rfl) ⟨Nat.zero_le _, Nat.zero_le _⟩ (fun _ => h)
  · have q18 := q
    replace h := h.1 q18
    refine ru_iconst hX dX0_match_17 (fun _ => ?_)
    exact ru_ireturn hX dX0_match_18 (Or.inl rfl) ⟨Nat.zero_le _, Nat.zero_le _⟩ (fun _ => h)
theorem bX0_isMatch_0 {cs ss : Nat → Option (Nat × eh_T)} {lim : Nat × Nat} {Rt : Option eh_V → eh_S → Prop} {X : eh_X} (hX : eh_Ru eh_nX eh_fl0 eh_kn0 cs ss lim Rt 1 cX0_isMatch X) {T165 : eh_T} (hc165 : ss 165 = some (2, T165)) {σ : eh_S}  {a1 : Int}  (h : eh_ok σ → T165 [.inl (σ.1 115 0), .inl 1000] σ (0, 0) (fun r σ1 => X 12 [some (.inr (some (0, 0))), some (.inl a1)] (r.toList ++ [.inl 0, .inl a1]) σ1 (0, 0))) : X 0 [some (.inr (some (0, 0))), some (.inl a1)] [] σ (0, 0) := by
  refine ru_ok hX (fun hok => ?_)
  replace h := h hok
  refine ru_iload_n hX dX0_isMatch_0 rfl (fun _ => ?_)
  refine ru_iconst hX dX0_isMatch_1 (fun _ => ?_)
  refine ru_aload_n hX dX0_isMatch_2 rfl (fun _ => ?_)
  refine ru_get (v := .inl (σ.1 115 0)) hX dX0_isMatch_3 rfl ⟨by decide, by decide⟩ rfl (fun _ => ?_)
  refine ru_sipush hX dX0_isMatch_6 (by decide) (fun _ => ?_)
  exact ru_callS (as := [.inl (σ.1 115 0), .inl 1000]) (rest := [.inl 0, .inl a1]) hX dX0_isMatch_9 hc165 rfl (Nat.le_of_ble_eq_true rfl) (0, 0) ⟨Nat.zero_le _, Nat.zero_le _⟩ h
theorem bX0_isMatch_12 {cs ss : Nat → Option (Nat × eh_T)} {lim : Nat × Nat} {Rt : Option eh_V → eh_S → Prop} {X : eh_X} (hX : eh_Ru eh_nX eh_fl0 eh_kn0 cs ss lim Rt 1 cX0_isMatch X) {T77 : eh_T} (hc77 : ss 77 = some (3, T77)) {σ : eh_S}  {o0 : Option eh_V} {o1 : Option eh_V} {s0 : Int} {s1 : Int} {s2 : Int}  (h : eh_ok σ → T77 [.inl s2, .inl s1, .inl (s0 - 1)] σ (0, 0) (fun r σ1 => X 17 [o0, o1] (r.toList ++ []) σ1 (0, 0))) : X 12 [o0, o1] [.inl s0, .inl s1, .inl s2] σ (0, 0) := by
  refine ru_ok hX (fun hok => ?_)
  replace h := h hok
  refine ru_iconst hX dX0_isMatch_12 (fun _ => ?_)
  refine ru_isub hX dX0_isMatch_13 (fun _ => ?_)
  exact ru_callS (as := [.inl s2, .inl s1, .inl (s0 - 1)]) (rest := []) hX dX0_isMatch_14 hc77 rfl (Nat.le_of_ble_eq_true rfl) (0, 0) ⟨Nat.zero_le _, Nat.zero_le _⟩ h
theorem bX0_isMatch_17 {cs ss : Nat → Option (Nat × eh_T)} {lim : Nat × Nat} {Rt : Option eh_V → eh_S → Prop} {X : eh_X} (hX : eh_Ru eh_nX eh_fl0 eh_kn0 cs ss lim Rt 1 cX0_isMatch X)  {σ : eh_S}  {o0 : Option eh_V} {o1 : Option eh_V} {s0 : Int}  (h : eh_ok σ → (s0 = 0 ∨ s0 = 1) ∧ Rt (some (.inl s0)) σ) : X 17 [o0, o1] [.inl s0] σ (0, 0) := by
  refine ru_ok hX (fun hok => ?_)
  replace h := h hok
  obtain ⟨k1, h⟩ := h
  exact ru_ireturn hX dX0_isMatch_17 (Or.inr ⟨rfl, k1⟩) ⟨Nat.zero_le _, Nat.zero_le _⟩ (fun _ => h)
theorem bX0_member_0 {cs ss : Nat → Option (Nat × eh_T)} {lim : Nat × Nat} {Rt : Option eh_V → eh_S → Prop} {X : eh_X} (hX : eh_Ru eh_nX eh_fl0 eh_kn0 cs ss lim Rt 0 cX0_member X) {T171 : eh_T} (hc171 : cs 171 = some (2, T171)) {σ : eh_S}  {a1 : Int} {a2 : Int} {a3 : Int}  (h : eh_ok σ → T171 [.inr (some (0, 0)), .inl a1] σ (0, 0) (fun r σ1 => X 5 [some (.inr (some (0, 0))), some (.inl a1), some (.inl a2), some (.inl a3)] (r.toList ++ []) σ1 (0, 0))) : X 0 [some (.inr (some (0, 0))), some (.inl a1), some (.inl a2), some (.inl a3)] [] σ (0, 0) := by
  refine ru_ok hX (fun hok => ?_)
  replace h := h hok
  refine ru_aload_n hX dX0_member_0 rfl (fun _ => ?_)
  refine ru_iload_n hX dX0_member_1 rfl (fun _ => ?_)
  exact ru_callV (as := [.inr (some (0, 0)), .inl a1]) (rest := []) hX dX0_member_2 hc171 rfl (Nat.le_of_ble_eq_true rfl) (0, 0) ⟨Nat.zero_le _, Nat.zero_le _⟩ h
theorem bX0_member_5 {cs ss : Nat → Option (Nat × eh_T)} {lim : Nat × Nat} {Rt : Option eh_V → eh_S → Prop} {X : eh_X} (hX : eh_Ru eh_nX eh_fl0 eh_kn0 cs ss lim Rt 0 cX0_member X) {T77 : eh_T} (hc77 : ss 77 = some (3, T77)) {σ : eh_S}  {a1 : Int} {a2 : Int} {a3 : Int} {s0 : Int}  (h : eh_ok σ → (-2147483648 ≤ s0 ∧ s0 < 2147483648) ∧ ((s0 = 0 → Rt (some (.inl (-1))) σ) ∧ (¬ s0 = 0 → (0 ≤ a1 ∧ a1 < 1000) ∧ T77 [.inl a2, .inl 0, .inl ((σ.2 112 0 a1) - 1)] σ (0, 0) (fun r σ1 => X 21 [some (.inr (some (0, 0))), some (.inl a1), some (.inl a2), some (.inl a3)] (r.toList ++ []) σ1 (0, 0))))) : X 5 [some (.inr (some (0, 0))), some (.inl a1), some (.inl a2), some (.inl a3)] [.inl s0] σ (0, 0) := by
  refine ru_ok hX (fun hok => ?_)
  replace h := h hok
  obtain ⟨k1, h⟩ := h
  refine ru_if_eq (tgt := 33) hX dX0_member_5 (by decide) k1 (fun q => ?_) (fun q => ?_)
  · have q2 := q
    replace h := h.1 q2
    refine ru_iconst hX dX0_member_33 (fun _ => ?_)
    exact ru_ireturn hX dX0_member_34 (Or.inl rfl) ⟨Nat.zero_le _, Nat.zero_le _⟩ (fun _ => h)
  · have q3 := q
    replace h := h.2 q3
    refine ru_iload_n hX dX0_member_8 rfl (fun _ => ?_)
    refine ru_iconst hX dX0_member_9 (fun _ => ?_)
    refine ru_aload_n hX dX0_member_10 rfl (fun _ => ?_)
    refine ru_get (v := .inr (some (112, 0))) hX dX0_member_11 rfl ⟨by decide, by decide⟩ rfl (fun _ => ?_)
    refine ru_iload_n hX dX0_member_14 rfl (fun _ => ?_)
    obtain ⟨k4, h⟩ := h
    refine ru_iaload hX dX0_member_15 ⟨by decide, by decide⟩ rfl k4 (fun _ => ?_)
    refine ru_iconst hX dX0_member_16 (fun _ => ?_)
    refine ru_isub hX dX0_member_17 (fun _ => ?_)
    exact ru_callS (as := [.inl a2, .inl 0, .inl ((σ.2 112 0 a1) - 1)]) (rest := []) hX dX0_member_18 hc77 rfl (Nat.le_of_ble_eq_true rfl) (0, 0) ⟨Nat.zero_le _, Nat.zero_le _⟩ h
theorem bX0_member_21 {cs ss : Nat → Option (Nat × eh_T)} {lim : Nat × Nat} {Rt : Option eh_V → eh_S → Prop} {X : eh_X} (hX : eh_Ru eh_nX eh_fl0 eh_kn0 cs ss lim Rt 0 cX0_member X) {T77 : eh_T} (hc77 : ss 77 = some (3, T77)) {σ : eh_S}  {a1 : Int} {a2 : Int} {a3 : Int} {s0 : Int}  (h : eh_ok σ → (-2147483648 ≤ s0 ∧ s0 < 2147483648) ∧ ((s0 = 0 → Rt (some (.inl (-1))) σ) ∧ (¬ s0 = 0 → T77 [.inl a3, .inl 0, .inl 1] σ (0, 0) (fun r σ1 => X 30 [some (.inr (some (0, 0))), some (.inl a1), some (.inl a2), some (.inl a3)] (r.toList ++ []) σ1 (0, 0))))) : X 21 [some (.inr (some (0, 0))), some (.inl a1), some (.inl a2), some (.inl a3)] [.inl s0] σ (0, 0) := by
  refine ru_ok hX (fun hok => ?_)
  replace h := h hok
  obtain ⟨k1, h⟩ := h
  refine ru_if_eq (tgt := 33) hX dX0_member_21 (by decide) k1 (fun q => ?_) (fun q => ?_)
  · have q2 := q
    replace h := h.1 q2
    refine ru_iconst hX dX0_member_33 (fun _ => ?_)
    exact ru_ireturn hX dX0_member_34 (Or.inl rfl) ⟨Nat.zero_le _, Nat.zero_le _⟩ (fun _ => h)
  · have q3 := q
    replace h := h.2 q3
    refine ru_iload_n hX dX0_member_24 rfl (fun _ => ?_)
    refine ru_iconst hX dX0_member_25 (fun _ => ?_)
    refine ru_iconst hX dX0_member_26 (fun _ => ?_)
    exact ru_callS (as := [.inl a3, .inl 0, .inl 1]) (rest := []) hX dX0_member_27 hc77 rfl (Nat.le_of_ble_eq_true rfl) (0, 0) ⟨Nat.zero_le _, Nat.zero_le _⟩ h
theorem bX0_member_30 {cs ss : Nat → Option (Nat × eh_T)} {lim : Nat × Nat} {Rt : Option eh_V → eh_S → Prop} {X : eh_X} (hX : eh_Ru eh_nX eh_fl0 eh_kn0 cs ss lim Rt 0 cX0_member X)  {σ : eh_S}  {a1 : Int} {a2 : Int} {a3 : Int} {s0 : Int}  (h : eh_ok σ → (-2147483648 ≤ s0 ∧ s0 < 2147483648) ∧ ((s0 = 0 → Rt (some (.inl (-1))) σ) ∧ (¬ s0 = 0 → (-2147483648 ≤ a3 ∧ a3 < 2147483648) ∧ ((a3 = 0 → (0 ≤ a1 ∧ a1 < 1000) ∧ (0 ≤ σ.2 113 0 a1) ∧ ∃ j11 : Int, (0 ≤ j11 ∧ j11 < σ.1 10 0) ∧ σ.2 12 0 j11 = σ.2 113 0 a1 ∧ (0 ≤ a2 ∧ a2 < σ.2 14 0 j11) ∧ Rt (some (.inl (σ.2 10 j11 a2))) σ) ∧ (¬ a3 = 0 → (0 ≤ a1 ∧ a1 < 1000) ∧ (0 ≤ σ.2 114 0 a1) ∧ ∃ j7 : Int, (0 ≤ j7 ∧ j7 < σ.1 11 0) ∧ σ.2 13 0 j7 = σ.2 114 0 a1 ∧ (0 ≤ a2 ∧ a2 < σ.2 15 0 j7) ∧ Rt (some (.inl (σ.2 11 j7 a2))) σ))))) : X 30 [some (.inr (some (0, 0))), some (.inl a1), some (.inl a2), some (.inl a3)] [.inl s0] σ (0, 0) := by
  refine ru_ok hX (fun hok => ?_)
  replace h := h hok
  obtain ⟨k1, h⟩ := h
  refine ru_if_ne (tgt := 35) hX dX0_member_30 (by decide) k1 (fun q => ?_) (fun q => ?_)
  · have q2 := q
    replace h := h.2 q2
    refine ru_iload_n hX dX0_member_35 rfl (fun _ => ?_)
    obtain ⟨k3, h⟩ := h
    refine ru_if_ne (tgt := 50) hX dX0_member_36 (by decide) k3 (fun q => ?_) (fun q => ?_)
    · have q4 := q
      replace h := h.2 q4
      refine ru_aload_n hX dX0_member_50 rfl (fun _ => ?_)
      refine ru_get (v := .inr (some (114, 0))) hX dX0_member_51 rfl ⟨by decide, by decide⟩ rfl (fun _ => ?_)
      refine ru_iload_n hX dX0_member_54 rfl (fun _ => ?_)
      obtain ⟨k5, h⟩ := h
      obtain ⟨k6, h⟩ := h
      refine ru_raload hX dX0_member_55 ⟨by decide, by decide⟩ (by decide) k5 k6 (fun _ => ?_)
      refine ru_iload_n hX dX0_member_56 rfl (fun _ => ?_)
      obtain ⟨j7, hj1, hj2, hj3, h⟩ := h
      refine ru_baload hX dX0_member_57 (by decide) hj1 hj2 hj3 (fun _ => ?_)
      exact ru_ireturn hX dX0_member_58 (Or.inl rfl) ⟨Nat.zero_le _, Nat.zero_le _⟩ (fun _ => h)
    · have q8 := q
      replace h := h.1 q8
      refine ru_aload_n hX dX0_member_39 rfl (fun _ => ?_)
      refine ru_get (v := .inr (some (113, 0))) hX dX0_member_40 rfl ⟨by decide, by decide⟩ rfl (fun _ => ?_)
      refine ru_iload_n hX dX0_member_43 rfl (fun _ => ?_)
      obtain ⟨k9, h⟩ := h
      obtain ⟨k10, h⟩ := h
      refine ru_raload hX dX0_member_44 ⟨by decide, by decide⟩ (by decide) k9 k10 (fun _ => ?_)
      refine ru_iload_n hX dX0_member_45 rfl (fun _ => ?_)
      obtain ⟨j11, hj1, hj2, hj3, h⟩ := h
      refine ru_saload hX dX0_member_46 (by decide) hj1 hj2 hj3 (fun _ => ?_)
      refine ru_goto (tgt := 58) hX dX0_member_47 (by decide) ?_
      exact ru_ireturn hX dX0_member_58 (Or.inl rfl) ⟨Nat.zero_le _, Nat.zero_le _⟩ (fun _ => h)
  · have q12 := q
    replace h := h.1 q12
    refine ru_iconst hX dX0_member_33 (fun _ => ?_)
    exact ru_ireturn hX dX0_member_34 (Or.inl rfl) ⟨Nat.zero_le _, Nat.zero_le _⟩ (fun _ => h)
theorem bX0_told_0 {cs ss : Nat → Option (Nat × eh_T)} {lim : Nat × Nat} {Rt : Option eh_V → eh_S → Prop} {X : eh_X} (hX : eh_Ru eh_nX eh_fl0 eh_kn0 cs ss lim Rt 0 cX0_told X) {T77 : eh_T} (hc77 : ss 77 = some (3, T77)) {σ : eh_S}  {a1 : Int} {a2 : Int}  (h : eh_ok σ → T77 [.inl a1, .inl 0, .inl ((σ.1 105 0) - 1)] σ (0, 0) (fun r σ1 => X 11 [some (.inr (some (0, 0))), some (.inl a1), some (.inl a2)] (r.toList ++ []) σ1 (0, 0))) : X 0 [some (.inr (some (0, 0))), some (.inl a1), some (.inl a2)] [] σ (0, 0) := by
  refine ru_ok hX (fun hok => ?_)
  replace h := h hok
  refine ru_iload_n hX dX0_told_0 rfl (fun _ => ?_)
  refine ru_iconst hX dX0_told_1 (fun _ => ?_)
  refine ru_aload_n hX dX0_told_2 rfl (fun _ => ?_)
  refine ru_get (v := .inl (σ.1 105 0)) hX dX0_told_3 rfl ⟨by decide, by decide⟩ rfl (fun _ => ?_)
  refine ru_iconst hX dX0_told_6 (fun _ => ?_)
  refine ru_isub hX dX0_told_7 (fun _ => ?_)
  exact ru_callS (as := [.inl a1, .inl 0, .inl ((σ.1 105 0) - 1)]) (rest := []) hX dX0_told_8 hc77 rfl (Nat.le_of_ble_eq_true rfl) (0, 0) ⟨Nat.zero_le _, Nat.zero_le _⟩ h
theorem bX0_told_11 {cs ss : Nat → Option (Nat × eh_T)} {lim : Nat × Nat} {Rt : Option eh_V → eh_S → Prop} {X : eh_X} (hX : eh_Ru eh_nX eh_fl0 eh_kn0 cs ss lim Rt 0 cX0_told X) {T77 : eh_T} (hc77 : ss 77 = some (3, T77)) {σ : eh_S}  {a1 : Int} {a2 : Int} {s0 : Int}  (h : eh_ok σ → (-2147483648 ≤ s0 ∧ s0 < 2147483648) ∧ ((s0 = 0 → Rt (some (.inl (-2000))) σ) ∧ (¬ s0 = 0 → T77 [.inl a2, .inl 0, .inl 7] σ (0, 0) (fun r σ1 => X 21 [some (.inr (some (0, 0))), some (.inl a1), some (.inl a2)] (r.toList ++ []) σ1 (0, 0))))) : X 11 [some (.inr (some (0, 0))), some (.inl a1), some (.inl a2)] [.inl s0] σ (0, 0) := by
  refine ru_ok hX (fun hok => ?_)
  replace h := h hok
  obtain ⟨k1, h⟩ := h
  refine ru_if_eq (tgt := 24) hX dX0_told_11 (by decide) k1 (fun q => ?_) (fun q => ?_)
  · have q2 := q
    replace h := h.1 q2
    refine ru_sipush hX dX0_told_24 (by decide) (fun _ => ?_)
    exact ru_ireturn hX dX0_told_27 (Or.inl rfl) ⟨Nat.zero_le _, Nat.zero_le _⟩ (fun _ => h)
  · have q3 := q
    replace h := h.2 q3
    refine ru_iload_n hX dX0_told_14 rfl (fun _ => ?_)
    refine ru_iconst hX dX0_told_15 (fun _ => ?_)
    refine ru_bipush hX dX0_told_16 (by decide) (fun _ => ?_)
    exact ru_callS (as := [.inl a2, .inl 0, .inl 7]) (rest := []) hX dX0_told_18 hc77 rfl (Nat.le_of_ble_eq_true rfl) (0, 0) ⟨Nat.zero_le _, Nat.zero_le _⟩ h
theorem bX0_told_21 {cs ss : Nat → Option (Nat × eh_T)} {lim : Nat × Nat} {Rt : Option eh_V → eh_S → Prop} {X : eh_X} (hX : eh_Ru eh_nX eh_fl0 eh_kn0 cs ss lim Rt 0 cX0_told X) {T174 : eh_T} (hc174 : cs 174 = some (2, T174)) {σ : eh_S}  {a1 : Int} {a2 : Int} {s0 : Int}  (h : eh_ok σ → (-2147483648 ≤ s0 ∧ s0 < 2147483648) ∧ ((s0 = 0 → Rt (some (.inl (-2000))) σ) ∧ (¬ s0 = 0 → (-2147483648 ≤ a2 ∧ a2 < 2147483648) ∧ ((a2 = 0 → (0 ≤ a1 ∧ a1 < 1000) ∧ X 95 [some (.inr (some (0, 0))), some (.inl a1), some (.inl a2)] [.inl (σ.2 101 0 a1)] σ (0, 0)) ∧ (¬ a2 = 0 → ((a2 = 1 → (0 ≤ a1 ∧ a1 < 1000) ∧ X 95 [some (.inr (some (0, 0))), some (.inl a1), some (.inl a2)] [.inl (σ.2 102 0 a1)] σ (0, 0)) ∧ (¬ a2 = 1 → ((a2 = 2 → (0 ≤ a1 ∧ a1 < 1000) ∧ X 95 [some (.inr (some (0, 0))), some (.inl a1), some (.inl a2)] [.inl (σ.2 103 0 a1)] σ (0, 0)) ∧ (¬ a2 = 2 → ((7 ≤ a2 → T174 [.inr (some (0, 0)), .inl a1] σ (0, 0) (fun r σ1 => X 95 [some (.inr (some (0, 0))), some (.inl a1), some (.inl a2)] (r.toList ++ []) σ1 (0, 0))) ∧ (¬ 7 ≤ a2 → (0 ≤ ((a1 * 4) + a2) - 3 ∧ ((a1 * 4) + a2) - 3 < 4000) ∧ X 95 [some (.inr (some (0, 0))), some (.inl a1), some (.inl a2)] [.inl (σ.2 104 0 (((a1 * 4) + a2) - 3))] σ (0, 0)))))))))))) : X 21 [some (.inr (some (0, 0))), some (.inl a1), some (.inl a2)] [.inl s0] σ (0, 0) := by
  refine ru_ok hX (fun hok => ?_)
  replace h := h hok
  obtain ⟨k1, h⟩ := h
  refine ru_if_ne (tgt := 28) hX dX0_told_21 (by decide) k1 (fun q => ?_) (fun q => ?_)
  · have q2 := q
    replace h := h.2 q2
    refine ru_iload_n hX dX0_told_28 rfl (fun _ => ?_)
    obtain ⟨k3, h⟩ := h
    refine ru_if_ne (tgt := 41) hX dX0_told_29 (by decide) k3 (fun q => ?_) (fun q => ?_)
    · have q4 := q
      replace h := h.2 q4
      refine ru_iload_n hX dX0_told_41 rfl (fun _ => ?_)
      refine ru_iconst hX dX0_told_42 (fun _ => ?_)
      refine ru_icmp_ne (tgt := 55) hX dX0_told_43 (by decide) k3 (by unfold eh_r; decide) (fun q => ?_) (fun q => ?_)
      · have q5 := q
        replace h := h.2 q5
        refine ru_iload_n hX dX0_told_55 rfl (fun _ => ?_)
        refine ru_iconst hX dX0_told_56 (fun _ => ?_)
        refine ru_icmp_ne (tgt := 69) hX dX0_told_57 (by decide) k3 (by unfold eh_r; decide) (fun q => ?_) (fun q => ?_)
        · have q6 := q
          replace h := h.2 q6
          refine ru_iload_n hX dX0_told_69 rfl (fun _ => ?_)
          refine ru_bipush hX dX0_told_70 (by decide) (fun _ => ?_)
          refine ru_icmp_ge (tgt := 90) hX dX0_told_72 (by decide) k3 (by unfold eh_r; decide) (fun q => ?_) (fun q => ?_)
          · have q7 := q
            replace h := h.1 q7
            refine ru_aload_n hX dX0_told_90 rfl (fun _ => ?_)
            refine ru_iload_n hX dX0_told_91 rfl (fun _ => ?_)
            exact ru_callV (as := [.inr (some (0, 0)), .inl a1]) (rest := []) hX dX0_told_92 hc174 rfl (Nat.le_of_ble_eq_true rfl) (0, 0) ⟨Nat.zero_le _, Nat.zero_le _⟩ h
          · have q8 := q
            replace h := h.2 q8
            refine ru_aload_n hX dX0_told_75 rfl (fun _ => ?_)
            refine ru_get (v := .inr (some (104, 0))) hX dX0_told_76 rfl ⟨by decide, by decide⟩ rfl (fun _ => ?_)
            refine ru_iload_n hX dX0_told_79 rfl (fun _ => ?_)
            refine ru_iconst hX dX0_told_80 (fun _ => ?_)
            refine ru_imul hX dX0_told_81 (fun _ => ?_)
            refine ru_iload_n hX dX0_told_82 rfl (fun _ => ?_)
            refine ru_iadd hX dX0_told_83 (fun _ => ?_)
            refine ru_iconst hX dX0_told_84 (fun _ => ?_)
            refine ru_isub hX dX0_told_85 (fun _ => ?_)
            obtain ⟨k9, h⟩ := h
            refine ru_iaload hX dX0_told_86 ⟨by decide, by decide⟩ rfl k9 (fun _ => ?_)
            refine ru_goto (tgt := 95) hX dX0_told_87 (by decide) ?_
            exact h
        · have q10 := q
          replace h := h.1 q10
          refine ru_aload_n hX dX0_told_60 rfl (fun _ => ?_)
          refine ru_get (v := .inr (some (103, 0))) hX dX0_told_61 rfl ⟨by decide, by decide⟩ rfl (fun _ => ?_)
          refine ru_iload_n hX dX0_told_64 rfl (fun _ => ?_)
          obtain ⟨k11, h⟩ := h
          refine ru_iaload hX dX0_told_65 ⟨by decide, by decide⟩ rfl k11 (fun _ => ?_)
          refine ru_goto (tgt := 95) hX dX0_told_66 (by decide) ?_
          exact h
      · have q12 := q
        replace h := h.1 q12
        refine ru_aload_n hX dX0_told_46 rfl (fun _ => ?_)
        refine ru_get (v := .inr (some (102, 0))) hX dX0_told_47 rfl ⟨by decide, by decide⟩ rfl (fun _ => ?_)
        refine ru_iload_n hX dX0_told_50 rfl (fun _ => ?_)
        obtain ⟨k13, h⟩ := h
        refine ru_iaload hX dX0_told_51 ⟨by decide, by decide⟩ rfl k13 (fun _ => ?_)
        refine ru_goto (tgt := 95) hX dX0_told_52 (by decide) ?_
        exact h
    · have q14 := q
      replace h := h.1 q14
      refine ru_aload_n hX dX0_told_32 rfl (fun _ => ?_)
      refine ru_get (v := .inr (some (101, 0))) hX dX0_told_33 rfl ⟨by decide, by decide⟩ rfl (fun _ => ?_)
      refine ru_iload_n hX dX0_told_36 rfl (fun _ => ?_)
      obtain ⟨k15, h⟩ := h
      refine ru_iaload hX dX0_told_37 ⟨by decide, by decide⟩ rfl k15 (fun _ => ?_)
      refine ru_goto (tgt := 95) hX dX0_told_38 (by decide) ?_
      exact h
  · have q16 := q
    replace h := h.1 q16
    refine ru_sipush hX dX0_told_24 (by decide) (fun _ => ?_)
    exact ru_ireturn hX dX0_told_27 (Or.inl rfl) ⟨Nat.zero_le _, Nat.zero_le _⟩ (fun _ => h)
theorem bX0_told_95 {cs ss : Nat → Option (Nat × eh_T)} {lim : Nat × Nat} {Rt : Option eh_V → eh_S → Prop} {X : eh_X} (hX : eh_Ru eh_nX eh_fl0 eh_kn0 cs ss lim Rt 0 cX0_told X)  {σ : eh_S}  {o0 : Option eh_V} {o1 : Option eh_V} {o2 : Option eh_V} {s0 : Int}  (h : eh_ok σ → Rt (some (.inl s0)) σ) : X 95 [o0, o1, o2] [.inl s0] σ (0, 0) := by
  refine ru_ok hX (fun hok => ?_)
  replace h := h hok
  exact ru_ireturn hX dX0_told_95 (Or.inl rfl) ⟨Nat.zero_le _, Nat.zero_le _⟩ (fun _ => h)
theorem bX0_matchesWith_0 {cs ss : Nat → Option (Nat × eh_T)} {lim : Nat × Nat} {Rt : Option eh_V → eh_S → Prop} {X : eh_X} (hX : eh_Ru eh_nX eh_fl0 eh_kn0 cs ss lim Rt 0 cX0_matchesWith X)  {σ : eh_S}  {a1 : Int} {o2 : Option eh_V} {o3 : Option eh_V} {o4 : Option eh_V} {o5 : Option eh_V}  (h : eh_ok σ → X 4 [some (.inr (some (0, 0))), some (.inl a1), some (.inl 0), some (.inl 0), o4, o5] [] σ (0, 0)) : X 0 [some (.inr (some (0, 0))), some (.inl a1), o2, o3, o4, o5] [] σ (0, 0) := by
  refine ru_ok hX (fun hok => ?_)
  replace h := h hok
  refine ru_iconst hX dX0_matchesWith_0 (fun _ => ?_)
  refine ru_istore_n (ls1 := [some (.inr (some (0, 0))), some (.inl a1), some (.inl 0), o3, o4, o5]) hX dX0_matchesWith_1 (Nat.le_of_ble_eq_true rfl) rfl (fun _ => ?_)
  refine ru_iconst hX dX0_matchesWith_2 (fun _ => ?_)
  refine ru_istore_n (ls1 := [some (.inr (some (0, 0))), some (.inl a1), some (.inl 0), some (.inl 0), o4, o5]) hX dX0_matchesWith_3 (Nat.le_of_ble_eq_true rfl) rfl (fun _ => ?_)
  exact h
theorem bX0_matchesWith_4 {cs ss : Nat → Option (Nat × eh_T)} {lim : Nat × Nat} {Rt : Option eh_V → eh_S → Prop} {X : eh_X} (hX : eh_Ru eh_nX eh_fl0 eh_kn0 cs ss lim Rt 0 cX0_matchesWith X) {T165 : eh_T} (hc165 : ss 165 = some (2, T165)) {σ : eh_S}  {a1 : Int} {a2 : Int} {a3 : Int} {o4 : Option eh_V} {o5 : Option eh_V}  (h : eh_ok σ → T165 [.inl (σ.1 115 0), .inl 1000] σ (0, 0) (fun r σ1 => X 15 [some (.inr (some (0, 0))), some (.inl a1), some (.inl a2), some (.inl a3), o4, o5] (r.toList ++ [.inl a3]) σ1 (0, 0))) : X 4 [some (.inr (some (0, 0))), some (.inl a1), some (.inl a2), some (.inl a3), o4, o5] [] σ (0, 0) := by
  refine ru_ok hX (fun hok => ?_)
  replace h := h hok
  refine ru_iload_n hX dX0_matchesWith_4 rfl (fun _ => ?_)
  refine ru_aload_n hX dX0_matchesWith_5 rfl (fun _ => ?_)
  refine ru_get (v := .inl (σ.1 115 0)) hX dX0_matchesWith_6 rfl ⟨by decide, by decide⟩ rfl (fun _ => ?_)
  refine ru_sipush hX dX0_matchesWith_9 (by decide) (fun _ => ?_)
  exact ru_callS (as := [.inl (σ.1 115 0), .inl 1000]) (rest := [.inl a3]) hX dX0_matchesWith_12 hc165 rfl (Nat.le_of_ble_eq_true rfl) (0, 0) ⟨Nat.zero_le _, Nat.zero_le _⟩ h
theorem bX0_matchesWith_15 {cs ss : Nat → Option (Nat × eh_T)} {lim : Nat × Nat} {Rt : Option eh_V → eh_S → Prop} {X : eh_X} (hX : eh_Ru eh_nX eh_fl0 eh_kn0 cs ss lim Rt 0 cX0_matchesWith X)  {σ : eh_S}  {a1 : Int} {a2 : Int} {a3 : Int} {o4 : Option eh_V} {o5 : Option eh_V} {s0 : Int} {s1 : Int}  (h : eh_ok σ → (-2147483648 ≤ s1 ∧ s1 < 2147483648) ∧ (-2147483648 ≤ s0 ∧ s0 < 2147483648) ∧ ((s0 ≤ s1 → Rt (some (.inl a2)) σ) ∧ (¬ s0 ≤ s1 → X 24 [some (.inr (some (0, 0))), some (.inl a1), some (.inl a2), some (.inl a3), some (.inl 0), some (.inl 0)] [] σ (0, 0)))) : X 15 [some (.inr (some (0, 0))), some (.inl a1), some (.inl a2), some (.inl a3), o4, o5] [.inl s0, .inl s1] σ (0, 0) := by
  refine ru_ok hX (fun hok => ?_)
  replace h := h hok
  obtain ⟨k1, h⟩ := h
  obtain ⟨k2, h⟩ := h
  refine ru_icmp_ge (tgt := 83) hX dX0_matchesWith_15 (by decide) k1 k2 (fun q => ?_) (fun q => ?_)
  · have q3 := q
    replace h := h.1 q3
    refine ru_iload_n hX dX0_matchesWith_83 rfl (fun _ => ?_)
    exact ru_ireturn hX dX0_matchesWith_84 (Or.inl rfl) ⟨Nat.zero_le _, Nat.zero_le _⟩ (fun _ => h)
  · have q4 := q
    replace h := h.2 q4
    refine ru_iconst hX dX0_matchesWith_18 (fun _ => ?_)
    refine ru_istore (ls1 := [some (.inr (some (0, 0))), some (.inl a1), some (.inl a2), some (.inl a3), some (.inl 0), o5]) hX dX0_matchesWith_19 (Nat.le_of_ble_eq_true rfl) rfl (fun _ => ?_)
    refine ru_iconst hX dX0_matchesWith_21 (fun _ => ?_)
    refine ru_istore (ls1 := [some (.inr (some (0, 0))), some (.inl a1), some (.inl a2), some (.inl a3), some (.inl 0), some (.inl 0)]) hX dX0_matchesWith_22 (Nat.le_of_ble_eq_true rfl) rfl (fun _ => ?_)
    exact h
theorem bX0_matchesWith_24 {cs ss : Nat → Option (Nat × eh_T)} {lim : Nat × Nat} {Rt : Option eh_V → eh_S → Prop} {X : eh_X} (hX : eh_Ru eh_nX eh_fl0 eh_kn0 cs ss lim Rt 0 cX0_matchesWith X)  {σ : eh_S}  {a1 : Int} {a2 : Int} {a3 : Int} {a4 : Int} {a5 : Int}  (h : eh_ok σ → (0 ≤ a3 ∧ a3 < 1000) ∧ (-2147483648 ≤ a5 ∧ a5 < 2147483648) ∧ ((σ.2 112 0 a3 ≤ a5 → (-2147483648 ≤ a4 ∧ a4 < 2147483648) ∧ ((a4 = 0 → X 4 [some (.inr (some (0, 0))), some (.inl a1), some (.inl (a2 + 0)), some (.inl (a3 + 1)), some (.inl a4), some (.inl a5)] [] σ (0, 0)) ∧ (¬ a4 = 0 → X 4 [some (.inr (some (0, 0))), some (.inl a1), some (.inl (a2 + 1)), some (.inl (a3 + 1)), some (.inl a4), some (.inl a5)] [] σ (0, 0)))) ∧ (¬ σ.2 112 0 a3 ≤ a5 → (0 ≤ σ.2 113 0 a3) ∧ ∃ j9 : Int, (0 ≤ j9 ∧ j9 < σ.1 10 0) ∧ σ.2 12 0 j9 = σ.2 113 0 a3 ∧ (0 ≤ a5 ∧ a5 < σ.2 14 0 j9) ∧ (-2147483648 ≤ a1 ∧ a1 < 2147483648) ∧ ((σ.2 10 j9 a5 = a1 → (a4 = 0 ∨ a4 = 1) ∧ X 24 [some (.inr (some (0, 0))), some (.inl a1), some (.inl a2), some (.inl a3), some (.inl (eh_or a4 1)), some (.inl (a5 + 1))] [] σ (0, 0)) ∧ (¬ σ.2 10 j9 a5 = a1 → (a4 = 0 ∨ a4 = 1) ∧ X 24 [some (.inr (some (0, 0))), some (.inl a1), some (.inl a2), some (.inl a3), some (.inl (eh_or a4 0)), some (.inl (a5 + 1))] [] σ (0, 0)))))) : X 24 [some (.inr (some (0, 0))), some (.inl a1), some (.inl a2), some (.inl a3), some (.inl a4), some (.inl a5)] [] σ (0, 0) := by
  refine ru_ok hX (fun hok => ?_)
  replace h := h hok
  refine ru_iload hX dX0_matchesWith_24 rfl (fun _ => ?_)
  refine ru_aload_n hX dX0_matchesWith_26 rfl (fun _ => ?_)
  refine ru_get (v := .inr (some (112, 0))) hX dX0_matchesWith_27 rfl ⟨by decide, by decide⟩ rfl (fun _ => ?_)
  refine ru_iload_n hX dX0_matchesWith_30 rfl (fun _ => ?_)
  obtain ⟨k1, h⟩ := h
  refine ru_iaload hX dX0_matchesWith_31 ⟨by decide, by decide⟩ rfl k1 (fun _ => ?_)
  obtain ⟨k2, h⟩ := h
  refine ru_icmp_ge (tgt := 64) hX dX0_matchesWith_32 (by decide) k2 (hok.2 _ _ _ (by decide) (by decide) (by decide) (by decide)) (fun q => ?_) (fun q => ?_)
  · have q3 := q
    replace h := h.1 q3
    refine ru_iload_n hX dX0_matchesWith_64 rfl (fun _ => ?_)
    refine ru_iload hX dX0_matchesWith_65 rfl (fun _ => ?_)
    obtain ⟨k4, h⟩ := h
    refine ru_if_eq (tgt := 74) hX dX0_matchesWith_67 (by decide) k4 (fun q => ?_) (fun q => ?_)
    · have q5 := q
      replace h := h.1 q5
      refine ru_iconst hX dX0_matchesWith_74 (fun _ => ?_)
      refine ru_iadd hX dX0_matchesWith_75 (fun _ => ?_)
      refine ru_istore_n (ls1 := [some (.inr (some (0, 0))), some (.inl a1), some (.inl (a2 + 0)), some (.inl a3), some (.inl a4), some (.inl a5)]) hX dX0_matchesWith_76 (Nat.le_of_ble_eq_true rfl) rfl (fun _ => ?_)
      refine ru_iinc (ls1 := [some (.inr (some (0, 0))), some (.inl a1), some (.inl (a2 + 0)), some (.inl (a3 + 1)), some (.inl a4), some (.inl a5)]) hX dX0_matchesWith_77 rfl rfl (fun _ => ?_)
      refine ru_goto (tgt := 4) hX dX0_matchesWith_80 (by decide) ?_
      exact h
    · have q6 := q
      replace h := h.2 q6
      refine ru_iconst hX dX0_matchesWith_70 (fun _ => ?_)
      refine ru_goto (tgt := 75) hX dX0_matchesWith_71 (by decide) ?_
      refine ru_iadd hX dX0_matchesWith_75 (fun _ => ?_)
      refine ru_istore_n (ls1 := [some (.inr (some (0, 0))), some (.inl a1), some (.inl (a2 + 1)), some (.inl a3), some (.inl a4), some (.inl a5)]) hX dX0_matchesWith_76 (Nat.le_of_ble_eq_true rfl) rfl (fun _ => ?_)
      refine ru_iinc (ls1 := [some (.inr (some (0, 0))), some (.inl a1), some (.inl (a2 + 1)), some (.inl (a3 + 1)), some (.inl a4), some (.inl a5)]) hX dX0_matchesWith_77 rfl rfl (fun _ => ?_)
      refine ru_goto (tgt := 4) hX dX0_matchesWith_80 (by decide) ?_
      exact h
  · have q7 := q
    replace h := h.2 q7
    refine ru_iload hX dX0_matchesWith_35 rfl (fun _ => ?_)
    refine ru_aload_n hX dX0_matchesWith_37 rfl (fun _ => ?_)
    refine ru_get (v := .inr (some (113, 0))) hX dX0_matchesWith_38 rfl ⟨by decide, by decide⟩ rfl (fun _ => ?_)
    refine ru_iload_n hX dX0_matchesWith_41 rfl (fun _ => ?_)
    obtain ⟨k8, h⟩ := h
    refine ru_raload hX dX0_matchesWith_42 ⟨by decide, by decide⟩ (by decide) k1 k8 (fun _ => ?_)
    refine ru_iload hX dX0_matchesWith_43 rfl (fun _ => ?_)
    obtain ⟨j9, hj1, hj2, hj3, h⟩ := h
    refine ru_saload hX dX0_matchesWith_45 (by decide) hj1 hj2 hj3 (fun _ => ?_)
    refine ru_iload_n hX dX0_matchesWith_46 rfl (fun _ => ?_)
    obtain ⟨k10, h⟩ := h
    refine ru_icmp_ne (tgt := 54) hX dX0_matchesWith_47 (by decide) (hok.2 _ _ _ (by decide) (by decide) (by decide) (by decide)) k10 (fun q => ?_) (fun q => ?_)
    · have q11 := q
      replace h := h.2 q11
      refine ru_iconst hX dX0_matchesWith_54 (fun _ => ?_)
      obtain ⟨k12, h⟩ := h
      refine ru_ior hX dX0_matchesWith_55 k12 (by decide) (fun _ => ?_)
      refine ru_istore (ls1 := [some (.inr (some (0, 0))), some (.inl a1), some (.inl a2), some (.inl a3), some (.inl (eh_or a4 0)), some (.inl a5)]) hX dX0_matchesWith_56 (Nat.le_of_ble_eq_true rfl) rfl (fun _ => ?_)
      refine ru_iinc (ls1 := [some (.inr (some (0, 0))), some (.inl a1), some (.inl a2), some (.inl a3), some (.inl (eh_or a4 0)), some (.inl (a5 + 1))]) hX dX0_matchesWith_58 rfl rfl (fun _ => ?_)
      refine ru_goto (tgt := 24) hX dX0_matchesWith_61 (by decide) ?_
      exact h
    · have q13 := q
      replace h := h.1 q13
      refine ru_iconst hX dX0_matchesWith_50 (fun _ => ?_)
      refine ru_goto (tgt := 55) hX dX0_matchesWith_51 (by decide) ?_
      obtain ⟨k14, h⟩ := h
      refine ru_ior hX dX0_matchesWith_55 k14 (by decide) (fun _ => ?_)
      refine ru_istore (ls1 := [some (.inr (some (0, 0))), some (.inl a1), some (.inl a2), some (.inl a3), some (.inl (eh_or a4 1)), some (.inl a5)]) hX dX0_matchesWith_56 (Nat.le_of_ble_eq_true rfl) rfl (fun _ => ?_)
      refine ru_iinc (ls1 := [some (.inr (some (0, 0))), some (.inl a1), some (.inl a2), some (.inl a3), some (.inl (eh_or a4 1)), some (.inl (a5 + 1))]) hX dX0_matchesWith_58 rfl rfl (fun _ => ?_)
      refine ru_goto (tgt := 24) hX dX0_matchesWith_61 (by decide) ?_
      exact h
theorem bX0_about_0 {cs ss : Nat → Option (Nat × eh_T)} {lim : Nat × Nat} {Rt : Option eh_V → eh_S → Prop} {X : eh_X} (hX : eh_Ru eh_nX eh_fl0 eh_kn0 cs ss lim Rt 0 cX0_about X) {T99 : eh_T} (hc99 : cs 99 = some (2, T99)) {σ : eh_S}  {a1 : Int} {a2 : Int} {o3 : Option eh_V} {o4 : Option eh_V} {o5 : Option eh_V}  (h : eh_ok σ → T99 [.inr (some (0, 0)), .inl a1] σ (0, 0) (fun r σ1 => X 5 [some (.inr (some (0, 0))), some (.inl a1), some (.inl a2), o3, o4, o5] (r.toList ++ []) σ1 (0, 0))) : X 0 [some (.inr (some (0, 0))), some (.inl a1), some (.inl a2), o3, o4, o5] [] σ (0, 0) := by
  refine ru_ok hX (fun hok => ?_)
  replace h := h hok
  refine ru_aload_n hX dX0_about_0 rfl (fun _ => ?_)
  refine ru_iload_n hX dX0_about_1 rfl (fun _ => ?_)
  exact ru_callV (as := [.inr (some (0, 0)), .inl a1]) (rest := []) hX dX0_about_2 hc99 rfl (Nat.le_of_ble_eq_true rfl) (0, 0) ⟨Nat.zero_le _, Nat.zero_le _⟩ h
theorem bX0_about_5 {cs ss : Nat → Option (Nat × eh_T)} {lim : Nat × Nat} {Rt : Option eh_V → eh_S → Prop} {X : eh_X} (hX : eh_Ru eh_nX eh_fl0 eh_kn0 cs ss lim Rt 0 cX0_about X) {T77 : eh_T} (hc77 : ss 77 = some (3, T77)) {σ : eh_S}  {a1 : Int} {a2 : Int} {o3 : Option eh_V} {o4 : Option eh_V} {o5 : Option eh_V} {s0 : Int}  (h : eh_ok σ → (-2147483648 ≤ s0 ∧ s0 < 2147483648) ∧ ((s0 = 0 → Rt (some (.inl (-1))) σ) ∧ (¬ s0 = 0 → T77 [.inl a2, .inl 0, .inl 5] σ (0, 0) (fun r σ1 => X 14 [some (.inr (some (0, 0))), some (.inl a1), some (.inl a2), o3, o4, o5] (r.toList ++ []) σ1 (0, 0))))) : X 5 [some (.inr (some (0, 0))), some (.inl a1), some (.inl a2), o3, o4, o5] [.inl s0] σ (0, 0) := by
  refine ru_ok hX (fun hok => ?_)
  replace h := h hok
  obtain ⟨k1, h⟩ := h
  refine ru_if_eq (tgt := 17) hX dX0_about_5 (by decide) k1 (fun q => ?_) (fun q => ?_)
  · have q2 := q
    replace h := h.1 q2
    refine ru_iconst hX dX0_about_17 (fun _ => ?_)
    exact ru_ireturn hX dX0_about_18 (Or.inl rfl) ⟨Nat.zero_le _, Nat.zero_le _⟩ (fun _ => h)
  · have q3 := q
    replace h := h.2 q3
    refine ru_iload_n hX dX0_about_8 rfl (fun _ => ?_)
    refine ru_iconst hX dX0_about_9 (fun _ => ?_)
    refine ru_iconst hX dX0_about_10 (fun _ => ?_)
    exact ru_callS (as := [.inl a2, .inl 0, .inl 5]) (rest := []) hX dX0_about_11 hc77 rfl (Nat.le_of_ble_eq_true rfl) (0, 0) ⟨Nat.zero_le _, Nat.zero_le _⟩ h
theorem bX0_about_14 {cs ss : Nat → Option (Nat × eh_T)} {lim : Nat × Nat} {Rt : Option eh_V → eh_S → Prop} {X : eh_X} (hX : eh_Ru eh_nX eh_fl0 eh_kn0 cs ss lim Rt 0 cX0_about X)  {σ : eh_S}  {a1 : Int} {a2 : Int} {o3 : Option eh_V} {o4 : Option eh_V} {o5 : Option eh_V} {s0 : Int}  (h : eh_ok σ → (-2147483648 ≤ s0 ∧ s0 < 2147483648) ∧ ((s0 = 0 → Rt (some (.inl (-1))) σ) ∧ (¬ s0 = 0 → (0 ≤ a1 ∧ a1 < 8) ∧ X 32 [some (.inr (some (0, 0))), some (.inl a1), some (.inl a2), some (.inr (some (3, a1))), some (.inl 0), some (.inl 0)] [] σ (0, 0)))) : X 14 [some (.inr (some (0, 0))), some (.inl a1), some (.inl a2), o3, o4, o5] [.inl s0] σ (0, 0) := by
  refine ru_ok hX (fun hok => ?_)
  replace h := h hok
  obtain ⟨k1, h⟩ := h
  refine ru_if_ne (tgt := 19) hX dX0_about_14 (by decide) k1 (fun q => ?_) (fun q => ?_)
  · have q2 := q
    replace h := h.2 q2
    refine ru_aload_n hX dX0_about_19 rfl (fun _ => ?_)
    refine ru_get (v := .inr (some (117, 0))) hX dX0_about_20 rfl ⟨by decide, by decide⟩ rfl (fun _ => ?_)
    refine ru_iload_n hX dX0_about_23 rfl (fun _ => ?_)
    obtain ⟨k3, h⟩ := h
    refine ru_paload hX dX0_about_24 ⟨by decide, by decide⟩ k3 (fun _ => ?_)
    refine ru_astore_n (ls1 := [some (.inr (some (0, 0))), some (.inl a1), some (.inl a2), some (.inr (some (3, a1))), o4, o5]) hX dX0_about_25 (Nat.le_of_ble_eq_true rfl) rfl (fun _ => ?_)
    refine ru_iconst hX dX0_about_26 (fun _ => ?_)
    refine ru_istore (ls1 := [some (.inr (some (0, 0))), some (.inl a1), some (.inl a2), some (.inr (some (3, a1))), some (.inl 0), o5]) hX dX0_about_27 (Nat.le_of_ble_eq_true rfl) rfl (fun _ => ?_)
    refine ru_iconst hX dX0_about_29 (fun _ => ?_)
    refine ru_istore (ls1 := [some (.inr (some (0, 0))), some (.inl a1), some (.inl a2), some (.inr (some (3, a1))), some (.inl 0), some (.inl 0)]) hX dX0_about_30 (Nat.le_of_ble_eq_true rfl) rfl (fun _ => ?_)
    exact h
  · have q4 := q
    replace h := h.1 q4
    refine ru_iconst hX dX0_about_17 (fun _ => ?_)
    exact ru_ireturn hX dX0_about_18 (Or.inl rfl) ⟨Nat.zero_le _, Nat.zero_le _⟩ (fun _ => h)
theorem bX0_about_32 {cs ss : Nat → Option (Nat × eh_T)} {lim : Nat × Nat} {Rt : Option eh_V → eh_S → Prop} {X : eh_X} (hX : eh_Ru eh_nX eh_fl0 eh_kn0 cs ss lim Rt 0 cX0_about X) {T193 : eh_T} (hc193 : cs 193 = some (3, T193)) {σ : eh_S}  {a1 : Int} {a2 : Int} {p3 : Int} {a4 : Int} {a5 : Int} (hp3 : 0 ≤ p3 ∧ p3 < 8) (h : eh_ok σ → (-2147483648 ≤ a5 ∧ a5 < 2147483648) ∧ ((σ.1 415 p3 ≤ a5 → (-2147483648 ≤ a2 ∧ a2 < 2147483648) ∧ (((a2 < 0 ∨ 4 < a2) → T193 [.inr (some (0, 0)), .inl a1, .inl (a1 + 1)] σ (0, 0) (fun r σ1 => X 151 [some (.inr (some (0, 0))), some (.inl a1), some (.inl a2), some (.inr (some (3, p3))), some (.inl a4), some (.inl a5)] (r.toList ++ []) σ1 (0, 0))) ∧ (a2 = 0 → Rt (some (.inl (σ.1 403 p3))) σ) ∧ (a2 = 1 → Rt (some (.inl (σ.1 415 p3))) σ) ∧ (a2 = 2 → Rt (some (.inl a4)) σ) ∧ (a2 = 3 → ((σ.1 410 p3 = 0 → Rt (some (.inl 0)) σ) ∧ (¬ σ.1 410 p3 = 0 → Rt (some (.inl 1)) σ))) ∧ (a2 = 4 → ((σ.1 409 p3 = 0 → Rt (some (.inl 0)) σ) ∧ (¬ σ.1 409 p3 = 0 → Rt (some (.inl 1)) σ))))) ∧ (¬ σ.1 415 p3 ≤ a5 → (0 ≤ a5 ∧ a5 < 200) ∧ ((σ.2 414 p3 a5 = 0 → X 32 [some (.inr (some (0, 0))), some (.inl a1), some (.inl a2), some (.inr (some (3, p3))), some (.inl (a4 + 0)), some (.inl (a5 + 1))] [] σ (0, 0)) ∧ (¬ σ.2 414 p3 a5 = 0 → X 32 [some (.inr (some (0, 0))), some (.inl a1), some (.inl a2), some (.inr (some (3, p3))), some (.inl (a4 + 1)), some (.inl (a5 + 1))] [] σ (0, 0)))))) : X 32 [some (.inr (some (0, 0))), some (.inl a1), some (.inl a2), some (.inr (some (3, p3))), some (.inl a4), some (.inl a5)] [] σ (0, 0) := by
  refine ru_ok hX (fun hok => ?_)
  replace h := h hok
  refine ru_iload hX dX0_about_32 rfl (fun _ => ?_)
  refine ru_aload_n hX dX0_about_34 rfl (fun _ => ?_)
  refine ru_get (v := .inl (σ.1 415 p3)) hX dX0_about_35 rfl hp3 rfl (fun _ => ?_)
  obtain ⟨k1, h⟩ := h
  refine ru_icmp_ge (tgt := 67) hX dX0_about_38 (by decide) k1 (hok.1 _ _) (fun q => ?_) (fun q => ?_)
  · have q2 := q
    replace h := h.1 q2
    refine ru_iload_n hX dX0_about_67 rfl (fun _ => ?_)
    obtain ⟨k3, h⟩ := h
    refine ru_tsw (tgt := 143) hX dX0_about_68 (by decide) k3 (fun q => ?_) (fun q1 q2 => ?_)
    · replace h := h.1 q
      refine ru_aload_n hX dX0_about_143 rfl (fun _ => ?_)
      refine ru_iload_n hX dX0_about_144 rfl (fun _ => ?_)
      refine ru_iload_n hX dX0_about_145 rfl (fun _ => ?_)
      refine ru_iconst hX dX0_about_146 (fun _ => ?_)
      refine ru_iadd hX dX0_about_147 (fun _ => ?_)
      exact ru_callV (as := [.inr (some (0, 0)), .inl a1, .inl (a1 + 1)]) (rest := []) hX dX0_about_148 hc193 rfl (Nat.le_of_ble_eq_true rfl) (0, 0) ⟨Nat.zero_le _, Nat.zero_le _⟩ h
    · replace h := h.2
      rcases (show a2 = 0 ∨ a2 = 1 ∨ a2 = 2 ∨ a2 = 3 ∨ a2 = 4 by omega) with q | q | q | q | q
      · refine ⟨36, 104, by rw [q]; rfl, by decide, ?_⟩
        replace h := h.1 q
        refine ru_aload_n hX dX0_about_104 rfl (fun _ => ?_)
        refine ru_get (v := .inl (σ.1 403 p3)) hX dX0_about_105 rfl hp3 rfl (fun _ => ?_)
        exact ru_ireturn hX dX0_about_108 (Or.inl rfl) ⟨Nat.zero_le _, Nat.zero_le _⟩ (fun _ => h)
      · refine ⟨41, 109, by rw [q]; rfl, by decide, ?_⟩
        replace h := h.2.1 q
        refine ru_aload_n hX dX0_about_109 rfl (fun _ => ?_)
        refine ru_get (v := .inl (σ.1 415 p3)) hX dX0_about_110 rfl hp3 rfl (fun _ => ?_)
        exact ru_ireturn hX dX0_about_113 (Or.inl rfl) ⟨Nat.zero_le _, Nat.zero_le _⟩ (fun _ => h)
      · refine ⟨46, 114, by rw [q]; rfl, by decide, ?_⟩
        replace h := h.2.2.1 q
        refine ru_iload hX dX0_about_114 rfl (fun _ => ?_)
        exact ru_ireturn hX dX0_about_116 (Or.inl rfl) ⟨Nat.zero_le _, Nat.zero_le _⟩ (fun _ => h)
      · refine ⟨49, 117, by rw [q]; rfl, by decide, ?_⟩
        replace h := h.2.2.2.1 q
        refine ru_aload_n hX dX0_about_117 rfl (fun _ => ?_)
        refine ru_get (v := .inl (σ.1 410 p3)) hX dX0_about_118 rfl hp3 rfl (fun _ => ?_)
        refine ru_if_eq (tgt := 128) hX dX0_about_121 (by decide) (hok.1 _ _) (fun q => ?_) (fun q => ?_)
        · have q4 := q
          replace h := h.1 q4
          refine ru_iconst hX dX0_about_128 (fun _ => ?_)
          exact ru_ireturn hX dX0_about_129 (Or.inl rfl) ⟨Nat.zero_le _, Nat.zero_le _⟩ (fun _ => h)
        · have q5 := q
          replace h := h.2 q5
          refine ru_iconst hX dX0_about_124 (fun _ => ?_)
          refine ru_goto (tgt := 129) hX dX0_about_125 (by decide) ?_
          exact ru_ireturn hX dX0_about_129 (Or.inl rfl) ⟨Nat.zero_le _, Nat.zero_le _⟩ (fun _ => h)
      · refine ⟨62, 130, by rw [q]; rfl, by decide, ?_⟩
        replace h := h.2.2.2.2 q
        refine ru_aload_n hX dX0_about_130 rfl (fun _ => ?_)
        refine ru_get (v := .inl (σ.1 409 p3)) hX dX0_about_131 rfl hp3 rfl (fun _ => ?_)
        refine ru_if_eq (tgt := 141) hX dX0_about_134 (by decide) (hok.1 _ _) (fun q => ?_) (fun q => ?_)
        · have q6 := q
          replace h := h.1 q6
          refine ru_iconst hX dX0_about_141 (fun _ => ?_)
          exact ru_ireturn hX dX0_about_142 (Or.inl rfl) ⟨Nat.zero_le _, Nat.zero_le _⟩ (fun _ => h)
        · have q7 := q
          replace h := h.2 q7
          refine ru_iconst hX dX0_about_137 (fun _ => ?_)
          refine ru_goto (tgt := 142) hX dX0_about_138 (by decide) ?_
          exact ru_ireturn hX dX0_about_142 (Or.inl rfl) ⟨Nat.zero_le _, Nat.zero_le _⟩ (fun _ => h)
  · have q8 := q
    replace h := h.2 q8
    refine ru_iload hX dX0_about_41 rfl (fun _ => ?_)
    refine ru_aload_n hX dX0_about_43 rfl (fun _ => ?_)
    refine ru_get (v := .inr (some (414, p3))) hX dX0_about_44 rfl hp3 rfl (fun _ => ?_)
    refine ru_iload hX dX0_about_47 rfl (fun _ => ?_)
    obtain ⟨k9, h⟩ := h
    refine ru_zaload hX dX0_about_49 (by decide) hp3 rfl k9 (fun _ => ?_)
    refine ru_if_eq (tgt := 57) hX dX0_about_50 (by decide) (hok.2 _ _ _ (by decide) (by decide) (by decide) (by decide)) (fun q => ?_) (fun q => ?_)
    · have q10 := q
      replace h := h.1 q10
      refine ru_iconst hX dX0_about_57 (fun _ => ?_)
      refine ru_iadd hX dX0_about_58 (fun _ => ?_)
      refine ru_istore (ls1 := [some (.inr (some (0, 0))), some (.inl a1), some (.inl a2), some (.inr (some (3, p3))), some (.inl (a4 + 0)), some (.inl a5)]) hX dX0_about_59 (Nat.le_of_ble_eq_true rfl) rfl (fun _ => ?_)
      refine ru_iinc (ls1 := [some (.inr (some (0, 0))), some (.inl a1), some (.inl a2), some (.inr (some (3, p3))), some (.inl (a4 + 0)), some (.inl (a5 + 1))]) hX dX0_about_61 rfl rfl (fun _ => ?_)
      refine ru_goto (tgt := 32) hX dX0_about_64 (by decide) ?_
      exact h
    · have q11 := q
      replace h := h.2 q11
      refine ru_iconst hX dX0_about_53 (fun _ => ?_)
      refine ru_goto (tgt := 58) hX dX0_about_54 (by decide) ?_
      refine ru_iadd hX dX0_about_58 (fun _ => ?_)
      refine ru_istore (ls1 := [some (.inr (some (0, 0))), some (.inl a1), some (.inl a2), some (.inr (some (3, p3))), some (.inl (a4 + 1)), some (.inl a5)]) hX dX0_about_59 (Nat.le_of_ble_eq_true rfl) rfl (fun _ => ?_)
      refine ru_iinc (ls1 := [some (.inr (some (0, 0))), some (.inl a1), some (.inl a2), some (.inr (some (3, p3))), some (.inl (a4 + 1)), some (.inl (a5 + 1))]) hX dX0_about_61 rfl rfl (fun _ => ?_)
      refine ru_goto (tgt := 32) hX dX0_about_64 (by decide) ?_
      exact h
theorem bX0_about_151 {cs ss : Nat → Option (Nat × eh_T)} {lim : Nat × Nat} {Rt : Option eh_V → eh_S → Prop} {X : eh_X} (hX : eh_Ru eh_nX eh_fl0 eh_kn0 cs ss lim Rt 0 cX0_about X)  {σ : eh_S}  {o0 : Option eh_V} {o1 : Option eh_V} {o2 : Option eh_V} {o3 : Option eh_V} {o4 : Option eh_V} {o5 : Option eh_V} {s0 : Int}  (h : eh_ok σ → Rt (some (.inl s0)) σ) : X 151 [o0, o1, o2, o3, o4, o5] [.inl s0] σ (0, 0) := by
  refine ru_ok hX (fun hok => ?_)
  replace h := h hok
  exact ru_ireturn hX dX0_about_151 (Or.inl rfl) ⟨Nat.zero_le _, Nat.zero_le _⟩ (fun _ => h)
theorem bX0_keptBy_0 {cs ss : Nat → Option (Nat × eh_T)} {lim : Nat × Nat} {Rt : Option eh_V → eh_S → Prop} {X : eh_X} (hX : eh_Ru eh_nX eh_fl0 eh_kn0 cs ss lim Rt 0 cX0_keptBy X)  {σ : eh_S}  {a1 : Int} {a2 : Int} {o3 : Option eh_V} {o4 : Option eh_V} {o5 : Option eh_V} {o6 : Option eh_V}  (h : eh_ok σ → X 2 [some (.inr (some (0, 0))), some (.inl a1), some (.inl a2), some (.inl 0), o4, o5, o6] [] σ (0, 0)) : X 0 [some (.inr (some (0, 0))), some (.inl a1), some (.inl a2), o3, o4, o5, o6] [] σ (0, 0) := by
  refine ru_ok hX (fun hok => ?_)
  replace h := h hok
  refine ru_iconst hX dX0_keptBy_0 (fun _ => ?_)
  refine ru_istore_n (ls1 := [some (.inr (some (0, 0))), some (.inl a1), some (.inl a2), some (.inl 0), o4, o5, o6]) hX dX0_keptBy_1 (Nat.le_of_ble_eq_true rfl) rfl (fun _ => ?_)
  exact h
theorem bX0_keptBy_2 {cs ss : Nat → Option (Nat × eh_T)} {lim : Nat × Nat} {Rt : Option eh_V → eh_S → Prop} {X : eh_X} (hX : eh_Ru eh_nX eh_fl0 eh_kn0 cs ss lim Rt 0 cX0_keptBy X)  {σ : eh_S}  {a1 : Int} {a2 : Int} {a3 : Int} {o4 : Option eh_V} {o5 : Option eh_V} {o6 : Option eh_V}  (h : eh_ok σ → (-2147483648 ≤ a3 ∧ a3 < 2147483648) ∧ ((σ.1 105 0 ≤ a3 → X 28 [some (.inr (some (0, 0))), some (.inl a1), some (.inl a2), some (.inl 0), some (.inl a1), o5, o6] [] σ (0, 0)) ∧ (¬ σ.1 105 0 ≤ a3 → (0 ≤ a3 ∧ a3 < 1000) ∧ X 2 [some (.inr (some (0, 0))), some (.inl a1), some (.inl a2), some (.inl (a3 + 1)), o4, o5, o6] [] (eh_sA σ 120 0 a3 0) (0, 0)))) : X 2 [some (.inr (some (0, 0))), some (.inl a1), some (.inl a2), some (.inl a3), o4, o5, o6] [] σ (0, 0) := by
  refine ru_ok hX (fun hok => ?_)
  replace h := h hok
  refine ru_iload_n hX dX0_keptBy_2 rfl (fun _ => ?_)
  refine ru_aload_n hX dX0_keptBy_3 rfl (fun _ => ?_)
  refine ru_get (v := .inl (σ.1 105 0)) hX dX0_keptBy_4 rfl ⟨by decide, by decide⟩ rfl (fun _ => ?_)
  obtain ⟨k1, h⟩ := h
  refine ru_icmp_ge (tgt := 23) hX dX0_keptBy_7 (by decide) k1 (hok.1 _ _) (fun q => ?_) (fun q => ?_)
  · have q2 := q
    replace h := h.1 q2
    refine ru_iconst hX dX0_keptBy_23 (fun _ => ?_)
    refine ru_istore_n (ls1 := [some (.inr (some (0, 0))), some (.inl a1), some (.inl a2), some (.inl 0), o4, o5, o6]) hX dX0_keptBy_24 (Nat.le_of_ble_eq_true rfl) rfl (fun _ => ?_)
    refine ru_iload_n hX dX0_keptBy_25 rfl (fun _ => ?_)
    refine ru_istore (ls1 := [some (.inr (some (0, 0))), some (.inl a1), some (.inl a2), some (.inl 0), some (.inl a1), o5, o6]) hX dX0_keptBy_26 (Nat.le_of_ble_eq_true rfl) rfl (fun _ => ?_)
    exact h
  · have q3 := q
    replace h := h.2 q3
    refine ru_aload_n hX dX0_keptBy_10 rfl (fun _ => ?_)
    refine ru_get (v := .inr (some (120, 0))) hX dX0_keptBy_11 rfl ⟨by decide, by decide⟩ rfl (fun _ => ?_)
    refine ru_iload_n hX dX0_keptBy_14 rfl (fun _ => ?_)
    refine ru_iconst hX dX0_keptBy_15 (fun _ => ?_)
    obtain ⟨k4, h⟩ := h
    refine ru_zastore hX dX0_keptBy_16 (by decide) ⟨by decide, by decide⟩ rfl k4 (by decide) (fun _ => ?_)
    refine ru_iinc (ls1 := [some (.inr (some (0, 0))), some (.inl a1), some (.inl a2), some (.inl (a3 + 1)), o4, o5, o6]) hX dX0_keptBy_17 rfl rfl (fun hok5 => ?_)
    refine ru_goto (tgt := 2) hX dX0_keptBy_20 (by decide) ?_
    exact h
theorem bX0_keptBy_28 {cs ss : Nat → Option (Nat × eh_T)} {lim : Nat × Nat} {Rt : Option eh_V → eh_S → Prop} {X : eh_X} (hX : eh_Ru eh_nX eh_fl0 eh_kn0 cs ss lim Rt 0 cX0_keptBy X)  {σ : eh_S}  {o1 : Option eh_V} {a2 : Int} {a3 : Int} {a4 : Int} {o5 : Option eh_V} {o6 : Option eh_V}  (h : eh_ok σ → (-2147483648 ≤ a4 ∧ a4 < 2147483648) ∧ (-2147483648 ≤ a2 ∧ a2 < 2147483648) ∧ ((a2 ≤ a4 → Rt (some (.inl a3)) σ) ∧ (¬ a2 ≤ a4 → X 37 [some (.inr (some (0, 0))), o1, some (.inl a2), some (.inl a3), some (.inl a4), some (.inl 0), o6] [] σ (0, 0)))) : X 28 [some (.inr (some (0, 0))), o1, some (.inl a2), some (.inl a3), some (.inl a4), o5, o6] [] σ (0, 0) := by
  refine ru_ok hX (fun hok => ?_)
  replace h := h hok
  refine ru_iload hX dX0_keptBy_28 rfl (fun _ => ?_)
  refine ru_iload_n hX dX0_keptBy_30 rfl (fun _ => ?_)
  obtain ⟨k1, h⟩ := h
  obtain ⟨k2, h⟩ := h
  refine ru_icmp_ge (tgt := 142) hX dX0_keptBy_31 (by decide) k1 k2 (fun q => ?_) (fun q => ?_)
  · have q3 := q
    replace h := h.1 q3
    refine ru_iload_n hX dX0_keptBy_142 rfl (fun _ => ?_)
    exact ru_ireturn hX dX0_keptBy_143 (Or.inl rfl) ⟨Nat.zero_le _, Nat.zero_le _⟩ (fun _ => h)
  · have q4 := q
    replace h := h.2 q4
    refine ru_iconst hX dX0_keptBy_34 (fun _ => ?_)
    refine ru_istore (ls1 := [some (.inr (some (0, 0))), o1, some (.inl a2), some (.inl a3), some (.inl a4), some (.inl 0), o6]) hX dX0_keptBy_35 (Nat.le_of_ble_eq_true rfl) rfl (fun _ => ?_)
    exact h
theorem bX0_keptBy_37 {cs ss : Nat → Option (Nat × eh_T)} {lim : Nat × Nat} {Rt : Option eh_V → eh_S → Prop} {X : eh_X} (hX : eh_Ru eh_nX eh_fl0 eh_kn0 cs ss lim Rt 0 cX0_keptBy X)  {σ : eh_S}  {o1 : Option eh_V} {a2 : Int} {a3 : Int} {a4 : Int} {a5 : Int} {o6 : Option eh_V}  (h : eh_ok σ → (0 ≤ a4 ∧ a4 < 8) ∧ (-2147483648 ≤ a5 ∧ a5 < 2147483648) ∧ ((σ.1 415 a4 ≤ a5 → X 28 [some (.inr (some (0, 0))), o1, some (.inl a2), some (.inl a3), some (.inl (a4 + 1)), some (.inl a5), o6] [] σ (0, 0)) ∧ (¬ σ.1 415 a4 ≤ a5 → (0 ≤ a5 ∧ a5 < 200) ∧ X 67 [some (.inr (some (0, 0))), o1, some (.inl a2), some (.inl a3), some (.inl a4), some (.inl a5), some (.inl (σ.2 413 a4 a5))] [] σ (0, 0)))) : X 37 [some (.inr (some (0, 0))), o1, some (.inl a2), some (.inl a3), some (.inl a4), some (.inl a5), o6] [] σ (0, 0) := by
  refine ru_ok hX (fun hok => ?_)
  replace h := h hok
  refine ru_iload hX dX0_keptBy_37 rfl (fun _ => ?_)
  refine ru_aload_n hX dX0_keptBy_39 rfl (fun _ => ?_)
  refine ru_get (v := .inr (some (117, 0))) hX dX0_keptBy_40 rfl ⟨by decide, by decide⟩ rfl (fun _ => ?_)
  refine ru_iload hX dX0_keptBy_43 rfl (fun _ => ?_)
  obtain ⟨k1, h⟩ := h
  refine ru_paload hX dX0_keptBy_45 ⟨by decide, by decide⟩ k1 (fun _ => ?_)
  refine ru_get (v := .inl (σ.1 415 a4)) hX dX0_keptBy_46 rfl k1 rfl (fun _ => ?_)
  obtain ⟨k2, h⟩ := h
  refine ru_icmp_ge (tgt := 136) hX dX0_keptBy_49 (by decide) k2 (hok.1 _ _) (fun q => ?_) (fun q => ?_)
  · have q3 := q
    replace h := h.1 q3
    refine ru_iinc (ls1 := [some (.inr (some (0, 0))), o1, some (.inl a2), some (.inl a3), some (.inl (a4 + 1)), some (.inl a5), o6]) hX dX0_keptBy_136 rfl rfl (fun _ => ?_)
    refine ru_goto (tgt := 28) hX dX0_keptBy_139 (by decide) ?_
    exact h
  · have q4 := q
    replace h := h.2 q4
    refine ru_aload_n hX dX0_keptBy_52 rfl (fun _ => ?_)
    refine ru_get (v := .inr (some (117, 0))) hX dX0_keptBy_53 rfl ⟨by decide, by decide⟩ rfl (fun _ => ?_)
    refine ru_iload hX dX0_keptBy_56 rfl (fun _ => ?_)
    refine ru_paload hX dX0_keptBy_58 ⟨by decide, by decide⟩ k1 (fun _ => ?_)
    refine ru_get (v := .inr (some (413, a4))) hX dX0_keptBy_59 rfl k1 rfl (fun _ => ?_)
    refine ru_iload hX dX0_keptBy_62 rfl (fun _ => ?_)
    obtain ⟨k5, h⟩ := h
    refine ru_iaload hX dX0_keptBy_64 k1 rfl k5 (fun _ => ?_)
    refine ru_istore (ls1 := [some (.inr (some (0, 0))), o1, some (.inl a2), some (.inl a3), some (.inl a4), some (.inl a5), some (.inl (σ.2 413 a4 a5))]) hX dX0_keptBy_65 (Nat.le_of_ble_eq_true rfl) rfl (fun _ => ?_)
    exact h
theorem bX0_keptBy_67 {cs ss : Nat → Option (Nat × eh_T)} {lim : Nat × Nat} {Rt : Option eh_V → eh_S → Prop} {X : eh_X} (hX : eh_Ru eh_nX eh_fl0 eh_kn0 cs ss lim Rt 0 cX0_keptBy X)  {σ : eh_S}  {o1 : Option eh_V} {a2 : Int} {a3 : Int} {a4 : Int} {a5 : Int} {a6 : Int}  (h : eh_ok σ → (-2147483648 ≤ a6 ∧ a6 < 2147483648) ∧ ((a6 = (-1) → X 37 [some (.inr (some (0, 0))), o1, some (.inl a2), some (.inl a3), some (.inl a4), some (.inl (a5 + 1)), some (.inl a6)] [] σ (0, 0)) ∧ (¬ a6 = (-1) → (0 ≤ a6 ∧ a6 < 38424) ∧ (0 ≤ σ.2 200 0 a6 ∧ σ.2 200 0 a6 < 1000) ∧ ((σ.2 120 0 (σ.2 200 0 a6) = 0 → X 67 [some (.inr (some (0, 0))), o1, some (.inl a2), some (.inl (a3 + 1)), some (.inl a4), some (.inl a5), some (.inl (σ.2 202 0 a6))] [] (eh_sA σ 120 0 (σ.2 200 0 a6) 1) (0, 0)) ∧ (¬ σ.2 120 0 (σ.2 200 0 a6) = 0 → X 67 [some (.inr (some (0, 0))), o1, some (.inl a2), some (.inl (a3 + 0)), some (.inl a4), some (.inl a5), some (.inl (σ.2 202 0 a6))] [] (eh_sA σ 120 0 (σ.2 200 0 a6) 1) (0, 0)))))) : X 67 [some (.inr (some (0, 0))), o1, some (.inl a2), some (.inl a3), some (.inl a4), some (.inl a5), some (.inl a6)] [] σ (0, 0) := by
  refine ru_ok hX (fun hok => ?_)
  replace h := h hok
  refine ru_iload hX dX0_keptBy_67 rfl (fun _ => ?_)
  refine ru_iconst hX dX0_keptBy_69 (fun _ => ?_)
  obtain ⟨k1, h⟩ := h
  refine ru_icmp_eq (tgt := 130) hX dX0_keptBy_70 (by decide) k1 (by unfold eh_r; decide) (fun q => ?_) (fun q => ?_)
  · have q2 := q
    replace h := h.1 q2
    refine ru_iinc (ls1 := [some (.inr (some (0, 0))), o1, some (.inl a2), some (.inl a3), some (.inl a4), some (.inl (a5 + 1)), some (.inl a6)]) hX dX0_keptBy_130 rfl rfl (fun _ => ?_)
    refine ru_goto (tgt := 37) hX dX0_keptBy_133 (by decide) ?_
    exact h
  · have q3 := q
    replace h := h.2 q3
    refine ru_iload_n hX dX0_keptBy_73 rfl (fun _ => ?_)
    refine ru_aload_n hX dX0_keptBy_74 rfl (fun _ => ?_)
    refine ru_get (v := .inr (some (120, 0))) hX dX0_keptBy_75 rfl ⟨by decide, by decide⟩ rfl (fun _ => ?_)
    refine ru_aload_n hX dX0_keptBy_78 rfl (fun _ => ?_)
    refine ru_get (v := .inr (some (1, 0))) hX dX0_keptBy_79 rfl ⟨by decide, by decide⟩ rfl (fun _ => ?_)
    refine ru_get (v := .inr (some (200, 0))) hX dX0_keptBy_82 rfl ⟨by decide, by decide⟩ rfl (fun _ => ?_)
    refine ru_iload hX dX0_keptBy_85 rfl (fun _ => ?_)
    obtain ⟨k4, h⟩ := h
    refine ru_iaload hX dX0_keptBy_87 ⟨by decide, by decide⟩ rfl k4 (fun _ => ?_)
    obtain ⟨k5, h⟩ := h
    refine ru_zaload hX dX0_keptBy_88 (by decide) ⟨by decide, by decide⟩ rfl k5 (fun _ => ?_)
    refine ru_if_eq (tgt := 96) hX dX0_keptBy_89 (by decide) (hok.2 _ _ _ (by decide) (by decide) (by decide) (by decide)) (fun q => ?_) (fun q => ?_)
    · have q6 := q
      replace h := h.1 q6
      refine ru_iconst hX dX0_keptBy_96 (fun _ => ?_)
      refine ru_iadd hX dX0_keptBy_97 (fun _ => ?_)
      refine ru_istore_n (ls1 := [some (.inr (some (0, 0))), o1, some (.inl a2), some (.inl (a3 + 1)), some (.inl a4), some (.inl a5), some (.inl a6)]) hX dX0_keptBy_98 (Nat.le_of_ble_eq_true rfl) rfl (fun _ => ?_)
      refine ru_aload_n hX dX0_keptBy_99 rfl (fun _ => ?_)
      refine ru_get (v := .inr (some (120, 0))) hX dX0_keptBy_100 rfl ⟨by decide, by decide⟩ rfl (fun _ => ?_)
      refine ru_aload_n hX dX0_keptBy_103 rfl (fun _ => ?_)
      refine ru_get (v := .inr (some (1, 0))) hX dX0_keptBy_104 rfl ⟨by decide, by decide⟩ rfl (fun _ => ?_)
      refine ru_get (v := .inr (some (200, 0))) hX dX0_keptBy_107 rfl ⟨by decide, by decide⟩ rfl (fun _ => ?_)
      refine ru_iload hX dX0_keptBy_110 rfl (fun _ => ?_)
      refine ru_iaload hX dX0_keptBy_112 ⟨by decide, by decide⟩ rfl k4 (fun _ => ?_)
      refine ru_iconst hX dX0_keptBy_113 (fun _ => ?_)
      refine ru_zastore hX dX0_keptBy_114 (by decide) ⟨by decide, by decide⟩ rfl k5 (by decide) (fun _ => ?_)
      refine ru_aload_n hX dX0_keptBy_115 rfl (fun hok7 => ?_)
      refine ru_get (v := .inr (some (1, 0))) hX dX0_keptBy_116 rfl ⟨by decide, by decide⟩ rfl (fun _ => ?_)
      refine ru_get (v := .inr (some (202, 0))) hX dX0_keptBy_119 rfl ⟨by decide, by decide⟩ rfl (fun _ => ?_)
      refine ru_iload hX dX0_keptBy_122 rfl (fun _ => ?_)
      refine ru_iaload hX dX0_keptBy_124 ⟨by decide, by decide⟩ rfl k4 (fun _ => ?_)
      refine ru_istore (ls1 := [some (.inr (some (0, 0))), o1, some (.inl a2), some (.inl (a3 + 1)), some (.inl a4), some (.inl a5), some (.inl (σ.2 202 0 a6))]) hX dX0_keptBy_125 (Nat.le_of_ble_eq_true rfl) rfl (fun _ => ?_)
      refine ru_goto (tgt := 67) hX dX0_keptBy_127 (by decide) ?_
      exact h
    · have q8 := q
      replace h := h.2 q8
      refine ru_iconst hX dX0_keptBy_92 (fun _ => ?_)
      refine ru_goto (tgt := 97) hX dX0_keptBy_93 (by decide) ?_
      refine ru_iadd hX dX0_keptBy_97 (fun _ => ?_)
      refine ru_istore_n (ls1 := [some (.inr (some (0, 0))), o1, some (.inl a2), some (.inl (a3 + 0)), some (.inl a4), some (.inl a5), some (.inl a6)]) hX dX0_keptBy_98 (Nat.le_of_ble_eq_true rfl) rfl (fun _ => ?_)
      refine ru_aload_n hX dX0_keptBy_99 rfl (fun _ => ?_)
      refine ru_get (v := .inr (some (120, 0))) hX dX0_keptBy_100 rfl ⟨by decide, by decide⟩ rfl (fun _ => ?_)
      refine ru_aload_n hX dX0_keptBy_103 rfl (fun _ => ?_)
      refine ru_get (v := .inr (some (1, 0))) hX dX0_keptBy_104 rfl ⟨by decide, by decide⟩ rfl (fun _ => ?_)
      refine ru_get (v := .inr (some (200, 0))) hX dX0_keptBy_107 rfl ⟨by decide, by decide⟩ rfl (fun _ => ?_)
      refine ru_iload hX dX0_keptBy_110 rfl (fun _ => ?_)
      refine ru_iaload hX dX0_keptBy_112 ⟨by decide, by decide⟩ rfl k4 (fun _ => ?_)
      refine ru_iconst hX dX0_keptBy_113 (fun _ => ?_)
      refine ru_zastore hX dX0_keptBy_114 (by decide) ⟨by decide, by decide⟩ rfl k5 (by decide) (fun _ => ?_)
      refine ru_aload_n hX dX0_keptBy_115 rfl (fun hok9 => ?_)
      refine ru_get (v := .inr (some (1, 0))) hX dX0_keptBy_116 rfl ⟨by decide, by decide⟩ rfl (fun _ => ?_)
      refine ru_get (v := .inr (some (202, 0))) hX dX0_keptBy_119 rfl ⟨by decide, by decide⟩ rfl (fun _ => ?_)
      refine ru_iload hX dX0_keptBy_122 rfl (fun _ => ?_)
      refine ru_iaload hX dX0_keptBy_124 ⟨by decide, by decide⟩ rfl k4 (fun _ => ?_)
      refine ru_istore (ls1 := [some (.inr (some (0, 0))), o1, some (.inl a2), some (.inl (a3 + 0)), some (.inl a4), some (.inl a5), some (.inl (σ.2 202 0 a6))]) hX dX0_keptBy_125 (Nat.le_of_ble_eq_true rfl) rfl (fun _ => ?_)
      refine ru_goto (tgt := 67) hX dX0_keptBy_127 (by decide) ?_
      exact h
theorem bX0_run_0 {cs ss : Nat → Option (Nat × eh_T)} {lim : Nat × Nat} {Rt : Option eh_V → eh_S → Prop} {X : eh_X} (hX : eh_Ru eh_nX eh_fl0 eh_kn0 cs ss lim Rt 0 cX0_run X) {T99 : eh_T} (hc99 : cs 99 = some (2, T99)) {σ : eh_S}  {a1 : Int} {a2 : Int} {a3 : Int} {a4 : Int} {o5 : Option eh_V} {o6 : Option eh_V}  (h : eh_ok σ → T99 [.inr (some (0, 0)), .inl a1] σ (0, 0) (fun r σ1 => X 5 [some (.inr (some (0, 0))), some (.inl a1), some (.inl a2), some (.inl a3), some (.inl a4), o5, o6] (r.toList ++ []) σ1 (0, 0))) : X 0 [some (.inr (some (0, 0))), some (.inl a1), some (.inl a2), some (.inl a3), some (.inl a4), o5, o6] [] σ (0, 0) := by
  refine ru_ok hX (fun hok => ?_)
  replace h := h hok
  refine ru_aload_n hX dX0_run_0 rfl (fun _ => ?_)
  refine ru_iload_n hX dX0_run_1 rfl (fun _ => ?_)
  exact ru_callV (as := [.inr (some (0, 0)), .inl a1]) (rest := []) hX dX0_run_2 hc99 rfl (Nat.le_of_ble_eq_true rfl) (0, 0) ⟨Nat.zero_le _, Nat.zero_le _⟩ h
theorem bX0_run_5 {cs ss : Nat → Option (Nat × eh_T)} {lim : Nat × Nat} {Rt : Option eh_V → eh_S → Prop} {X : eh_X} (hX : eh_Ru eh_nX eh_fl0 eh_kn0 cs ss lim Rt 0 cX0_run X) {T77 : eh_T} (hc77 : ss 77 = some (3, T77)) {σ : eh_S}  {a1 : Int} {a2 : Int} {a3 : Int} {a4 : Int} {o5 : Option eh_V} {o6 : Option eh_V} {s0 : Int}  (h : eh_ok σ → (-2147483648 ≤ s0 ∧ s0 < 2147483648) ∧ ((s0 = 0 → Rt (some (.inl (-1))) σ) ∧ (¬ s0 = 0 → (0 ≤ a1 ∧ a1 < 8) ∧ T77 [.inl a2, .inl 0, .inl ((σ.1 415 a1) - 1)] σ (0, 0) (fun r σ1 => X 24 [some (.inr (some (0, 0))), some (.inl a1), some (.inl a2), some (.inl a3), some (.inl a4), o5, o6] (r.toList ++ []) σ1 (0, 0))))) : X 5 [some (.inr (some (0, 0))), some (.inl a1), some (.inl a2), some (.inl a3), some (.inl a4), o5, o6] [.inl s0] σ (0, 0) := by
  refine ru_ok hX (fun hok => ?_)
  replace h := h hok
  obtain ⟨k1, h⟩ := h
  refine ru_if_eq (tgt := 37) hX dX0_run_5 (by decide) k1 (fun q => ?_) (fun q => ?_)
  · have q2 := q
    replace h := h.1 q2
    refine ru_iconst hX dX0_run_37 (fun _ => ?_)
    exact ru_ireturn hX dX0_run_38 (Or.inl rfl) ⟨Nat.zero_le _, Nat.zero_le _⟩ (fun _ => h)
  · have q3 := q
    replace h := h.2 q3
    refine ru_iload_n hX dX0_run_8 rfl (fun _ => ?_)
    refine ru_iconst hX dX0_run_9 (fun _ => ?_)
    refine ru_aload_n hX dX0_run_10 rfl (fun _ => ?_)
    refine ru_get (v := .inr (some (117, 0))) hX dX0_run_11 rfl ⟨by decide, by decide⟩ rfl (fun _ => ?_)
    refine ru_iload_n hX dX0_run_14 rfl (fun _ => ?_)
    obtain ⟨k4, h⟩ := h
    refine ru_paload hX dX0_run_15 ⟨by decide, by decide⟩ k4 (fun _ => ?_)
    refine ru_get (v := .inl (σ.1 415 a1)) hX dX0_run_16 rfl k4 rfl (fun _ => ?_)
    refine ru_iconst hX dX0_run_19 (fun _ => ?_)
    refine ru_isub hX dX0_run_20 (fun _ => ?_)
    exact ru_callS (as := [.inl a2, .inl 0, .inl ((σ.1 415 a1) - 1)]) (rest := []) hX dX0_run_21 hc77 rfl (Nat.le_of_ble_eq_true rfl) (0, 0) ⟨Nat.zero_le _, Nat.zero_le _⟩ h
theorem bX0_run_24 {cs ss : Nat → Option (Nat × eh_T)} {lim : Nat × Nat} {Rt : Option eh_V → eh_S → Prop} {X : eh_X} (hX : eh_Ru eh_nX eh_fl0 eh_kn0 cs ss lim Rt 0 cX0_run X) {T77 : eh_T} (hc77 : ss 77 = some (3, T77)) {σ : eh_S}  {a1 : Int} {a2 : Int} {a3 : Int} {a4 : Int} {o5 : Option eh_V} {o6 : Option eh_V} {s0 : Int}  (h : eh_ok σ → (-2147483648 ≤ s0 ∧ s0 < 2147483648) ∧ ((s0 = 0 → Rt (some (.inl (-1))) σ) ∧ (¬ s0 = 0 → T77 [.inl a4, .inl 0, .inl 1] σ (0, 0) (fun r σ1 => X 34 [some (.inr (some (0, 0))), some (.inl a1), some (.inl a2), some (.inl a3), some (.inl a4), o5, o6] (r.toList ++ []) σ1 (0, 0))))) : X 24 [some (.inr (some (0, 0))), some (.inl a1), some (.inl a2), some (.inl a3), some (.inl a4), o5, o6] [.inl s0] σ (0, 0) := by
  refine ru_ok hX (fun hok => ?_)
  replace h := h hok
  obtain ⟨k1, h⟩ := h
  refine ru_if_eq (tgt := 37) hX dX0_run_24 (by decide) k1 (fun q => ?_) (fun q => ?_)
  · have q2 := q
    replace h := h.1 q2
    refine ru_iconst hX dX0_run_37 (fun _ => ?_)
    exact ru_ireturn hX dX0_run_38 (Or.inl rfl) ⟨Nat.zero_le _, Nat.zero_le _⟩ (fun _ => h)
  · have q3 := q
    replace h := h.2 q3
    refine ru_iload hX dX0_run_27 rfl (fun _ => ?_)
    refine ru_iconst hX dX0_run_29 (fun _ => ?_)
    refine ru_iconst hX dX0_run_30 (fun _ => ?_)
    exact ru_callS (as := [.inl a4, .inl 0, .inl 1]) (rest := []) hX dX0_run_31 hc77 rfl (Nat.le_of_ble_eq_true rfl) (0, 0) ⟨Nat.zero_le _, Nat.zero_le _⟩ h
theorem bX0_run_34 {cs ss : Nat → Option (Nat × eh_T)} {lim : Nat × Nat} {Rt : Option eh_V → eh_S → Prop} {X : eh_X} (hX : eh_Ru eh_nX eh_fl0 eh_kn0 cs ss lim Rt 0 cX0_run X) {T196 : eh_T} (hc196 : cs 196 = some (2, T196)) {σ : eh_S}  {a1 : Int} {a2 : Int} {a3 : Int} {a4 : Int} {o5 : Option eh_V} {o6 : Option eh_V} {s0 : Int}  (h : eh_ok σ → (-2147483648 ≤ s0 ∧ s0 < 2147483648) ∧ ((s0 = 0 → Rt (some (.inl (-1))) σ) ∧ (¬ s0 = 0 → (0 ≤ a1 ∧ a1 < 8) ∧ (0 ≤ a2 ∧ a2 < 200) ∧ T196 [.inr (some (1, 0)), .inl (σ.2 413 a1 a2)] σ (0, 0) (fun r σ1 => X 63 [some (.inr (some (0, 0))), some (.inl a1), some (.inl a2), some (.inl a3), some (.inl a4), some (.inl (σ.2 413 a1 a2)), o6] (r.toList ++ [.inl 0, .inl a3]) σ1 (0, 0))))) : X 34 [some (.inr (some (0, 0))), some (.inl a1), some (.inl a2), some (.inl a3), some (.inl a4), o5, o6] [.inl s0] σ (0, 0) := by
  refine ru_ok hX (fun hok => ?_)
  replace h := h hok
  obtain ⟨k1, h⟩ := h
  refine ru_if_ne (tgt := 39) hX dX0_run_34 (by decide) k1 (fun q => ?_) (fun q => ?_)
  · have q2 := q
    replace h := h.2 q2
    refine ru_aload_n hX dX0_run_39 rfl (fun _ => ?_)
    refine ru_get (v := .inr (some (117, 0))) hX dX0_run_40 rfl ⟨by decide, by decide⟩ rfl (fun _ => ?_)
    refine ru_iload_n hX dX0_run_43 rfl (fun _ => ?_)
    obtain ⟨k3, h⟩ := h
    refine ru_paload hX dX0_run_44 ⟨by decide, by decide⟩ k3 (fun _ => ?_)
    refine ru_get (v := .inr (some (413, a1))) hX dX0_run_45 rfl k3 rfl (fun _ => ?_)
    refine ru_iload_n hX dX0_run_48 rfl (fun _ => ?_)
    obtain ⟨k4, h⟩ := h
    refine ru_iaload hX dX0_run_49 k3 rfl k4 (fun _ => ?_)
    refine ru_istore (ls1 := [some (.inr (some (0, 0))), some (.inl a1), some (.inl a2), some (.inl a3), some (.inl a4), some (.inl (σ.2 413 a1 a2)), o6]) hX dX0_run_50 (Nat.le_of_ble_eq_true rfl) rfl (fun _ => ?_)
    refine ru_iload_n hX dX0_run_52 rfl (fun _ => ?_)
    refine ru_iconst hX dX0_run_53 (fun _ => ?_)
    refine ru_aload_n hX dX0_run_54 rfl (fun _ => ?_)
    refine ru_get (v := .inr (some (1, 0))) hX dX0_run_55 rfl ⟨by decide, by decide⟩ rfl (fun _ => ?_)
    refine ru_iload hX dX0_run_58 rfl (fun _ => ?_)
    exact ru_callV (as := [.inr (some (1, 0)), .inl (σ.2 413 a1 a2)]) (rest := [.inl 0, .inl a3]) hX dX0_run_60 hc196 rfl (Nat.le_of_ble_eq_true rfl) (0, 0) ⟨Nat.zero_le _, Nat.zero_le _⟩ h
  · have q5 := q
    replace h := h.1 q5
    refine ru_iconst hX dX0_run_37 (fun _ => ?_)
    exact ru_ireturn hX dX0_run_38 (Or.inl rfl) ⟨Nat.zero_le _, Nat.zero_le _⟩ (fun _ => h)
theorem bX0_run_63 {cs ss : Nat → Option (Nat × eh_T)} {lim : Nat × Nat} {Rt : Option eh_V → eh_S → Prop} {X : eh_X} (hX : eh_Ru eh_nX eh_fl0 eh_kn0 cs ss lim Rt 0 cX0_run X) {T77 : eh_T} (hc77 : ss 77 = some (3, T77)) {σ : eh_S}  {o1 : Option eh_V} {o2 : Option eh_V} {a3 : Int} {a4 : Int} {a5 : Int} {o6 : Option eh_V} {s0 : Int} {s1 : Int} {s2 : Int}  (h : eh_ok σ → T77 [.inl s2, .inl s1, .inl (s0 - 1)] σ (0, 0) (fun r σ1 => X 68 [some (.inr (some (0, 0))), o1, o2, some (.inl a3), some (.inl a4), some (.inl a5), o6] (r.toList ++ []) σ1 (0, 0))) : X 63 [some (.inr (some (0, 0))), o1, o2, some (.inl a3), some (.inl a4), some (.inl a5), o6] [.inl s0, .inl s1, .inl s2] σ (0, 0) := by
  refine ru_ok hX (fun hok => ?_)
  replace h := h hok
  refine ru_iconst hX dX0_run_63 (fun _ => ?_)
  refine ru_isub hX dX0_run_64 (fun _ => ?_)
  exact ru_callS (as := [.inl s2, .inl s1, .inl (s0 - 1)]) (rest := []) hX dX0_run_65 hc77 rfl (Nat.le_of_ble_eq_true rfl) (0, 0) ⟨Nat.zero_le _, Nat.zero_le _⟩ h
theorem bX0_run_68 {cs ss : Nat → Option (Nat × eh_T)} {lim : Nat × Nat} {Rt : Option eh_V → eh_S → Prop} {X : eh_X} (hX : eh_Ru eh_nX eh_fl0 eh_kn0 cs ss lim Rt 0 cX0_run X) {T199 : eh_T} (hc199 : cs 199 = some (3, T199)) {σ : eh_S}  {o1 : Option eh_V} {o2 : Option eh_V} {a3 : Int} {a4 : Int} {a5 : Int} {o6 : Option eh_V} {s0 : Int}  (h : eh_ok σ → (-2147483648 ≤ s0 ∧ s0 < 2147483648) ∧ ((s0 = 0 → Rt (some (.inl (-1))) σ) ∧ (¬ s0 = 0 → T199 [.inr (some (1, 0)), .inl a5, .inl a3] σ (0, 0) (fun r σ1 => X 83 [some (.inr (some (0, 0))), o1, o2, some (.inl a3), some (.inl a4), some (.inl a5), o6] (r.toList ++ []) σ1 (0, 0))))) : X 68 [some (.inr (some (0, 0))), o1, o2, some (.inl a3), some (.inl a4), some (.inl a5), o6] [.inl s0] σ (0, 0) := by
  refine ru_ok hX (fun hok => ?_)
  replace h := h hok
  obtain ⟨k1, h⟩ := h
  refine ru_if_ne (tgt := 73) hX dX0_run_68 (by decide) k1 (fun q => ?_) (fun q => ?_)
  · have q2 := q
    replace h := h.2 q2
    refine ru_aload_n hX dX0_run_73 rfl (fun _ => ?_)
    refine ru_get (v := .inr (some (1, 0))) hX dX0_run_74 rfl ⟨by decide, by decide⟩ rfl (fun _ => ?_)
    refine ru_iload hX dX0_run_77 rfl (fun _ => ?_)
    refine ru_iload_n hX dX0_run_79 rfl (fun _ => ?_)
    exact ru_callV (as := [.inr (some (1, 0)), .inl a5, .inl a3]) (rest := []) hX dX0_run_80 hc199 rfl (Nat.le_of_ble_eq_true rfl) (0, 0) ⟨Nat.zero_le _, Nat.zero_le _⟩ h
  · have q3 := q
    replace h := h.1 q3
    refine ru_iconst hX dX0_run_71 (fun _ => ?_)
    exact ru_ireturn hX dX0_run_72 (Or.inl rfl) ⟨Nat.zero_le _, Nat.zero_le _⟩ (fun _ => h)
theorem bX0_run_83 {cs ss : Nat → Option (Nat × eh_T)} {lim : Nat × Nat} {Rt : Option eh_V → eh_S → Prop} {X : eh_X} (hX : eh_Ru eh_nX eh_fl0 eh_kn0 cs ss lim Rt 0 cX0_run X)  {σ : eh_S}  {o1 : Option eh_V} {o2 : Option eh_V} {o3 : Option eh_V} {a4 : Int} {o5 : Option eh_V} {o6 : Option eh_V} {s0 : Int}  (h : eh_ok σ → (-2147483648 ≤ a4 ∧ a4 < 2147483648) ∧ ((a4 = 0 → (0 ≤ s0 ∧ s0 < 38424) ∧ Rt (some (.inl (σ.2 200 0 s0))) σ) ∧ (¬ a4 = 0 → (0 ≤ s0 ∧ s0 < 38424) ∧ Rt (some (.inl (σ.2 201 0 s0))) σ))) : X 83 [some (.inr (some (0, 0))), o1, o2, o3, some (.inl a4), o5, o6] [.inl s0] σ (0, 0) := by
  refine ru_ok hX (fun hok => ?_)
  replace h := h hok
  refine ru_istore (ls1 := [some (.inr (some (0, 0))), o1, o2, o3, some (.inl a4), o5, some (.inl s0)]) hX dX0_run_83 (Nat.le_of_ble_eq_true rfl) rfl (fun _ => ?_)
  refine ru_iload hX dX0_run_85 rfl (fun _ => ?_)
  obtain ⟨k1, h⟩ := h
  refine ru_if_ne (tgt := 103) hX dX0_run_87 (by decide) k1 (fun q => ?_) (fun q => ?_)
  · have q2 := q
    replace h := h.2 q2
    refine ru_aload_n hX dX0_run_103 rfl (fun _ => ?_)
    refine ru_get (v := .inr (some (1, 0))) hX dX0_run_104 rfl ⟨by decide, by decide⟩ rfl (fun _ => ?_)
    refine ru_get (v := .inr (some (201, 0))) hX dX0_run_107 rfl ⟨by decide, by decide⟩ rfl (fun _ => ?_)
    refine ru_iload hX dX0_run_110 rfl (fun _ => ?_)
    obtain ⟨k3, h⟩ := h
    refine ru_iaload hX dX0_run_112 ⟨by decide, by decide⟩ rfl k3 (fun _ => ?_)
    exact ru_ireturn hX dX0_run_113 (Or.inl rfl) ⟨Nat.zero_le _, Nat.zero_le _⟩ (fun _ => h)
  · have q4 := q
    replace h := h.1 q4
    refine ru_aload_n hX dX0_run_90 rfl (fun _ => ?_)
    refine ru_get (v := .inr (some (1, 0))) hX dX0_run_91 rfl ⟨by decide, by decide⟩ rfl (fun _ => ?_)
    refine ru_get (v := .inr (some (200, 0))) hX dX0_run_94 rfl ⟨by decide, by decide⟩ rfl (fun _ => ?_)
    refine ru_iload hX dX0_run_97 rfl (fun _ => ?_)
    obtain ⟨k5, h⟩ := h
    refine ru_iaload hX dX0_run_99 ⟨by decide, by decide⟩ rfl k5 (fun _ => ?_)
    refine ru_goto (tgt := 113) hX dX0_run_100 (by decide) ?_
    exact ru_ireturn hX dX0_run_113 (Or.inl rfl) ⟨Nat.zero_le _, Nat.zero_le _⟩ (fun _ => h)
theorem bX0_almost_0 {cs ss : Nat → Option (Nat × eh_T)} {lim : Nat × Nat} {Rt : Option eh_V → eh_S → Prop} {X : eh_X} (hX : eh_Ru eh_nX eh_fl0 eh_kn0 cs ss lim Rt 0 cX0_almost X) {T99 : eh_T} (hc99 : cs 99 = some (2, T99)) {σ : eh_S}  {a1 : Int} {a2 : Int} {o3 : Option eh_V} {o4 : Option eh_V}  (h : eh_ok σ → T99 [.inr (some (0, 0)), .inl a1] σ (0, 0) (fun r σ1 => X 5 [some (.inr (some (0, 0))), some (.inl a1), some (.inl a2), o3, o4] (r.toList ++ []) σ1 (0, 0))) : X 0 [some (.inr (some (0, 0))), some (.inl a1), some (.inl a2), o3, o4] [] σ (0, 0) := by
  refine ru_ok hX (fun hok => ?_)
  replace h := h hok
  refine ru_aload_n hX dX0_almost_0 rfl (fun _ => ?_)
  refine ru_iload_n hX dX0_almost_1 rfl (fun _ => ?_)
  exact ru_callV (as := [.inr (some (0, 0)), .inl a1]) (rest := []) hX dX0_almost_2 hc99 rfl (Nat.le_of_ble_eq_true rfl) (0, 0) ⟨Nat.zero_le _, Nat.zero_le _⟩ h
theorem bX0_almost_5 {cs ss : Nat → Option (Nat × eh_T)} {lim : Nat × Nat} {Rt : Option eh_V → eh_S → Prop} {X : eh_X} (hX : eh_Ru eh_nX eh_fl0 eh_kn0 cs ss lim Rt 0 cX0_almost X) {T77 : eh_T} (hc77 : ss 77 = some (3, T77)) {σ : eh_S}  {a1 : Int} {a2 : Int} {o3 : Option eh_V} {o4 : Option eh_V} {s0 : Int}  (h : eh_ok σ → (-2147483648 ≤ s0 ∧ s0 < 2147483648) ∧ ((s0 = 0 → Rt (some (.inl (-1))) σ) ∧ (¬ s0 = 0 → T77 [.inl a2, .inl 0, .inl 5] σ (0, 0) (fun r σ1 => X 14 [some (.inr (some (0, 0))), some (.inl a1), some (.inl a2), o3, o4] (r.toList ++ []) σ1 (0, 0))))) : X 5 [some (.inr (some (0, 0))), some (.inl a1), some (.inl a2), o3, o4] [.inl s0] σ (0, 0) := by
  refine ru_ok hX (fun hok => ?_)
  replace h := h hok
  obtain ⟨k1, h⟩ := h
  refine ru_if_eq (tgt := 17) hX dX0_almost_5 (by decide) k1 (fun q => ?_) (fun q => ?_)
  · have q2 := q
    replace h := h.1 q2
    refine ru_iconst hX dX0_almost_17 (fun _ => ?_)
    exact ru_ireturn hX dX0_almost_18 (Or.inl rfl) ⟨Nat.zero_le _, Nat.zero_le _⟩ (fun _ => h)
  · have q3 := q
    replace h := h.2 q3
    refine ru_iload_n hX dX0_almost_8 rfl (fun _ => ?_)
    refine ru_iconst hX dX0_almost_9 (fun _ => ?_)
    refine ru_iconst hX dX0_almost_10 (fun _ => ?_)
    exact ru_callS (as := [.inl a2, .inl 0, .inl 5]) (rest := []) hX dX0_almost_11 hc77 rfl (Nat.le_of_ble_eq_true rfl) (0, 0) ⟨Nat.zero_le _, Nat.zero_le _⟩ h
theorem bX0_almost_14 {cs ss : Nat → Option (Nat × eh_T)} {lim : Nat × Nat} {Rt : Option eh_V → eh_S → Prop} {X : eh_X} (hX : eh_Ru eh_nX eh_fl0 eh_kn0 cs ss lim Rt 0 cX0_almost X)  {σ : eh_S}  {a1 : Int} {a2 : Int} {o3 : Option eh_V} {o4 : Option eh_V} {s0 : Int}  (h : eh_ok σ → (-2147483648 ≤ s0 ∧ s0 < 2147483648) ∧ ((s0 = 0 → Rt (some (.inl (-1))) σ) ∧ (¬ s0 = 0 → X 24 [some (.inr (some (0, 0))), some (.inl a1), some (.inl a2), some (.inl 0), some (.inl 0)] [] σ (0, 0)))) : X 14 [some (.inr (some (0, 0))), some (.inl a1), some (.inl a2), o3, o4] [.inl s0] σ (0, 0) := by
  refine ru_ok hX (fun hok => ?_)
  replace h := h hok
  obtain ⟨k1, h⟩ := h
  refine ru_if_ne (tgt := 19) hX dX0_almost_14 (by decide) k1 (fun q => ?_) (fun q => ?_)
  · have q2 := q
    replace h := h.2 q2
    refine ru_iconst hX dX0_almost_19 (fun _ => ?_)
    refine ru_istore_n (ls1 := [some (.inr (some (0, 0))), some (.inl a1), some (.inl a2), some (.inl 0), o4]) hX dX0_almost_20 (Nat.le_of_ble_eq_true rfl) rfl (fun _ => ?_)
    refine ru_iconst hX dX0_almost_21 (fun _ => ?_)
    refine ru_istore (ls1 := [some (.inr (some (0, 0))), some (.inl a1), some (.inl a2), some (.inl 0), some (.inl 0)]) hX dX0_almost_22 (Nat.le_of_ble_eq_true rfl) rfl (fun _ => ?_)
    exact h
  · have q3 := q
    replace h := h.1 q3
    refine ru_iconst hX dX0_almost_17 (fun _ => ?_)
    exact ru_ireturn hX dX0_almost_18 (Or.inl rfl) ⟨Nat.zero_le _, Nat.zero_le _⟩ (fun _ => h)
theorem bX0_almost_24 {cs ss : Nat → Option (Nat × eh_T)} {lim : Nat × Nat} {Rt : Option eh_V → eh_S → Prop} {X : eh_X} (hX : eh_Ru eh_nX eh_fl0 eh_kn0 cs ss lim Rt 0 cX0_almost X) {T205 : eh_T} (hc205 : cs 205 = some (2, T205)) {σ : eh_S}  {a1 : Int} {a2 : Int} {a3 : Int} {a4 : Int}  (h : eh_ok σ → (0 ≤ a1 ∧ a1 < 8) ∧ (-2147483648 ≤ a4 ∧ a4 < 2147483648) ∧ ((σ.1 415 a1 ≤ a4 → Rt (some (.inl a3)) σ) ∧ (¬ σ.1 415 a1 ≤ a4 → (0 ≤ a4 ∧ a4 < 200) ∧ T205 [.inr (some (3, a1)), .inl (σ.2 413 a1 a4)] σ (0, 0) (fun r σ1 => X 60 [some (.inr (some (0, 0))), some (.inl a1), some (.inl a2), some (.inl a3), some (.inl a4)] (r.toList ++ [.inl a3]) σ1 (0, 0))))) : X 24 [some (.inr (some (0, 0))), some (.inl a1), some (.inl a2), some (.inl a3), some (.inl a4)] [] σ (0, 0) := by
  refine ru_ok hX (fun hok => ?_)
  replace h := h hok
  refine ru_iload hX dX0_almost_24 rfl (fun _ => ?_)
  refine ru_aload_n hX dX0_almost_26 rfl (fun _ => ?_)
  refine ru_get (v := .inr (some (117, 0))) hX dX0_almost_27 rfl ⟨by decide, by decide⟩ rfl (fun _ => ?_)
  refine ru_iload_n hX dX0_almost_30 rfl (fun _ => ?_)
  obtain ⟨k1, h⟩ := h
  refine ru_paload hX dX0_almost_31 ⟨by decide, by decide⟩ k1 (fun _ => ?_)
  refine ru_get (v := .inl (σ.1 415 a1)) hX dX0_almost_32 rfl k1 rfl (fun _ => ?_)
  obtain ⟨k2, h⟩ := h
  refine ru_icmp_ge (tgt := 77) hX dX0_almost_35 (by decide) k2 (hok.1 _ _) (fun q => ?_) (fun q => ?_)
  · have q3 := q
    replace h := h.1 q3
    refine ru_iload_n hX dX0_almost_77 rfl (fun _ => ?_)
    exact ru_ireturn hX dX0_almost_78 (Or.inl rfl) ⟨Nat.zero_le _, Nat.zero_le _⟩ (fun _ => h)
  · have q4 := q
    replace h := h.2 q4
    refine ru_iload_n hX dX0_almost_38 rfl (fun _ => ?_)
    refine ru_aload_n hX dX0_almost_39 rfl (fun _ => ?_)
    refine ru_get (v := .inr (some (117, 0))) hX dX0_almost_40 rfl ⟨by decide, by decide⟩ rfl (fun _ => ?_)
    refine ru_iload_n hX dX0_almost_43 rfl (fun _ => ?_)
    refine ru_paload hX dX0_almost_44 ⟨by decide, by decide⟩ k1 (fun _ => ?_)
    refine ru_aload_n hX dX0_almost_45 rfl (fun _ => ?_)
    refine ru_get (v := .inr (some (117, 0))) hX dX0_almost_46 rfl ⟨by decide, by decide⟩ rfl (fun _ => ?_)
    refine ru_iload_n hX dX0_almost_49 rfl (fun _ => ?_)
    refine ru_paload hX dX0_almost_50 ⟨by decide, by decide⟩ k1 (fun _ => ?_)
    refine ru_get (v := .inr (some (413, a1))) hX dX0_almost_51 rfl k1 rfl (fun _ => ?_)
    refine ru_iload hX dX0_almost_54 rfl (fun _ => ?_)
    obtain ⟨k5, h⟩ := h
    refine ru_iaload hX dX0_almost_56 k1 rfl k5 (fun _ => ?_)
    exact ru_callV (as := [.inr (some (3, a1)), .inl (σ.2 413 a1 a4)]) (rest := [.inl a3]) hX dX0_almost_57 hc205 rfl (Nat.le_of_ble_eq_true rfl) (0, 0) ⟨Nat.zero_le _, Nat.zero_le _⟩ h
theorem bX0_almost_60 {cs ss : Nat → Option (Nat × eh_T)} {lim : Nat × Nat} {Rt : Option eh_V → eh_S → Prop} {X : eh_X} (hX : eh_Ru eh_nX eh_fl0 eh_kn0 cs ss lim Rt 0 cX0_almost X)  {σ : eh_S}  {a1 : Int} {a2 : Int} {o3 : Option eh_V} {a4 : Int} {s0 : Int} {s1 : Int}  (h : eh_ok σ → (-2147483648 ≤ s0 ∧ s0 < 2147483648) ∧ (-2147483648 ≤ a2 ∧ a2 < 2147483648) ∧ ((a2 < s0 → X 24 [some (.inr (some (0, 0))), some (.inl a1), some (.inl a2), some (.inl (s1 + 0)), some (.inl (a4 + 1))] [] σ (0, 0)) ∧ (¬ a2 < s0 → X 24 [some (.inr (some (0, 0))), some (.inl a1), some (.inl a2), some (.inl (s1 + 1)), some (.inl (a4 + 1))] [] σ (0, 0)))) : X 60 [some (.inr (some (0, 0))), some (.inl a1), some (.inl a2), o3, some (.inl a4)] [.inl s0, .inl s1] σ (0, 0) := by
  refine ru_ok hX (fun hok => ?_)
  replace h := h hok
  refine ru_iload_n hX dX0_almost_60 rfl (fun _ => ?_)
  obtain ⟨k1, h⟩ := h
  obtain ⟨k2, h⟩ := h
  refine ru_icmp_gt (tgt := 68) hX dX0_almost_61 (by decide) k1 k2 (fun q => ?_) (fun q => ?_)
  · have q3 := q
    replace h := h.1 q3
    refine ru_iconst hX dX0_almost_68 (fun _ => ?_)
    refine ru_iadd hX dX0_almost_69 (fun _ => ?_)
    refine ru_istore_n (ls1 := [some (.inr (some (0, 0))), some (.inl a1), some (.inl a2), some (.inl (s1 + 0)), some (.inl a4)]) hX dX0_almost_70 (Nat.le_of_ble_eq_true rfl) rfl (fun _ => ?_)
    refine ru_iinc (ls1 := [some (.inr (some (0, 0))), some (.inl a1), some (.inl a2), some (.inl (s1 + 0)), some (.inl (a4 + 1))]) hX dX0_almost_71 rfl rfl (fun _ => ?_)
    refine ru_goto (tgt := 24) hX dX0_almost_74 (by decide) ?_
    exact h
  · have q4 := q
    replace h := h.2 q4
    refine ru_iconst hX dX0_almost_64 (fun _ => ?_)
    refine ru_goto (tgt := 69) hX dX0_almost_65 (by decide) ?_
    refine ru_iadd hX dX0_almost_69 (fun _ => ?_)
    refine ru_istore_n (ls1 := [some (.inr (some (0, 0))), some (.inl a1), some (.inl a2), some (.inl (s1 + 1)), some (.inl a4)]) hX dX0_almost_70 (Nat.le_of_ble_eq_true rfl) rfl (fun _ => ?_)
    refine ru_iinc (ls1 := [some (.inr (some (0, 0))), some (.inl a1), some (.inl a2), some (.inl (s1 + 1)), some (.inl (a4 + 1))]) hX dX0_almost_71 rfl rfl (fun _ => ?_)
    refine ru_goto (tgt := 24) hX dX0_almost_74 (by decide) ?_
    exact h
theorem bX0_plain_0 {cs ss : Nat → Option (Nat × eh_T)} {lim : Nat × Nat} {Rt : Option eh_V → eh_S → Prop} {X : eh_X} (hX : eh_Ru eh_nX eh_fl0 eh_kn0 cs ss lim Rt 0 cX0_plain X) {T99 : eh_T} (hc99 : cs 99 = some (2, T99)) {σ : eh_S}  {a1 : Int}  (h : eh_ok σ → T99 [.inr (some (0, 0)), .inl a1] σ (0, 0) (fun r σ1 => X 5 [some (.inr (some (0, 0))), some (.inl a1)] (r.toList ++ []) σ1 (0, 0))) : X 0 [some (.inr (some (0, 0))), some (.inl a1)] [] σ (0, 0) := by
  refine ru_ok hX (fun hok => ?_)
  replace h := h hok
  refine ru_aload_n hX dX0_plain_0 rfl (fun _ => ?_)
  refine ru_iload_n hX dX0_plain_1 rfl (fun _ => ?_)
  exact ru_callV (as := [.inr (some (0, 0)), .inl a1]) (rest := []) hX dX0_plain_2 hc99 rfl (Nat.le_of_ble_eq_true rfl) (0, 0) ⟨Nat.zero_le _, Nat.zero_le _⟩ h
theorem bX0_plain_5 {cs ss : Nat → Option (Nat × eh_T)} {lim : Nat × Nat} {Rt : Option eh_V → eh_S → Prop} {X : eh_X} (hX : eh_Ru eh_nX eh_fl0 eh_kn0 cs ss lim Rt 0 cX0_plain X) {T208 : eh_T} (hc208 : cs 208 = some (2, T208)) {σ : eh_S}  {a1 : Int} {s0 : Int}  (h : eh_ok σ → (-2147483648 ≤ s0 ∧ s0 < 2147483648) ∧ ((s0 = 0 → Rt (some (.inl (-1))) σ) ∧ (¬ s0 = 0 → (0 ≤ a1 ∧ a1 < 8) ∧ ((σ.1 409 a1 = 0 → Rt (some (.inl (-1))) σ) ∧ (¬ σ.1 409 a1 = 0 → (-2147483648 ≤ (σ.1 105 0) - (σ.1 411 a1) ∧ (σ.1 105 0) - (σ.1 411 a1) < 2147483648) ∧ (((σ.1 105 0) - (σ.1 411 a1) ≤ 12 → T208 [.inr (some (2, 0)), .inr (some (3, a1))] σ (0, 0) (fun r σ1 => X 59 [some (.inr (some (0, 0))), some (.inl a1)] (r.toList ++ []) σ1 (0, 0))) ∧ (¬ (σ.1 105 0) - (σ.1 411 a1) ≤ 12 → X 59 [some (.inr (some (0, 0))), some (.inl a1)] [.inl (-6)] σ (0, 0)))))))) : X 5 [some (.inr (some (0, 0))), some (.inl a1)] [.inl s0] σ (0, 0) := by
  refine ru_ok hX (fun hok => ?_)
  replace h := h hok
  obtain ⟨k1, h⟩ := h
  refine ru_if_eq (tgt := 20) hX dX0_plain_5 (by decide) k1 (fun q => ?_) (fun q => ?_)
  · have q2 := q
    replace h := h.1 q2
    refine ru_iconst hX dX0_plain_20 (fun _ => ?_)
    exact ru_ireturn hX dX0_plain_21 (Or.inl rfl) ⟨Nat.zero_le _, Nat.zero_le _⟩ (fun _ => h)
  · have q3 := q
    replace h := h.2 q3
    refine ru_aload_n hX dX0_plain_8 rfl (fun _ => ?_)
    refine ru_get (v := .inr (some (117, 0))) hX dX0_plain_9 rfl ⟨by decide, by decide⟩ rfl (fun _ => ?_)
    refine ru_iload_n hX dX0_plain_12 rfl (fun _ => ?_)
    obtain ⟨k4, h⟩ := h
    refine ru_paload hX dX0_plain_13 ⟨by decide, by decide⟩ k4 (fun _ => ?_)
    refine ru_get (v := .inl (σ.1 409 a1)) hX dX0_plain_14 rfl k4 rfl (fun _ => ?_)
    refine ru_if_ne (tgt := 22) hX dX0_plain_17 (by decide) (hok.1 _ _) (fun q => ?_) (fun q => ?_)
    · have q5 := q
      replace h := h.2 q5
      refine ru_aload_n hX dX0_plain_22 rfl (fun _ => ?_)
      refine ru_get (v := .inl (σ.1 105 0)) hX dX0_plain_23 rfl ⟨by decide, by decide⟩ rfl (fun _ => ?_)
      refine ru_aload_n hX dX0_plain_26 rfl (fun _ => ?_)
      refine ru_get (v := .inr (some (117, 0))) hX dX0_plain_27 rfl ⟨by decide, by decide⟩ rfl (fun _ => ?_)
      refine ru_iload_n hX dX0_plain_30 rfl (fun _ => ?_)
      refine ru_paload hX dX0_plain_31 ⟨by decide, by decide⟩ k4 (fun _ => ?_)
      refine ru_get (v := .inl (σ.1 411 a1)) hX dX0_plain_32 rfl k4 rfl (fun _ => ?_)
      refine ru_isub hX dX0_plain_35 (fun _ => ?_)
      refine ru_bipush hX dX0_plain_36 (by decide) (fun _ => ?_)
      obtain ⟨k6, h⟩ := h
      refine ru_icmp_le (tgt := 46) hX dX0_plain_38 (by decide) k6 (by unfold eh_r; decide) (fun q => ?_) (fun q => ?_)
      · have q7 := q
        replace h := h.1 q7
        refine ru_aload_n hX dX0_plain_46 rfl (fun _ => ?_)
        refine ru_get (v := .inr (some (2, 0))) hX dX0_plain_47 rfl ⟨by decide, by decide⟩ rfl (fun _ => ?_)
        refine ru_aload_n hX dX0_plain_50 rfl (fun _ => ?_)
        refine ru_get (v := .inr (some (117, 0))) hX dX0_plain_51 rfl ⟨by decide, by decide⟩ rfl (fun _ => ?_)
        refine ru_iload_n hX dX0_plain_54 rfl (fun _ => ?_)
        refine ru_paload hX dX0_plain_55 ⟨by decide, by decide⟩ k4 (fun _ => ?_)
        exact ru_callV (as := [.inr (some (2, 0)), .inr (some (3, a1))]) (rest := []) hX dX0_plain_56 hc208 rfl (Nat.le_of_ble_eq_true rfl) (0, 0) ⟨Nat.zero_le _, Nat.zero_le _⟩ h
      · have q8 := q
        replace h := h.2 q8
        refine ru_bipush hX dX0_plain_41 (by decide) (fun _ => ?_)
        refine ru_goto (tgt := 59) hX dX0_plain_43 (by decide) ?_
        exact h
    · have q9 := q
      replace h := h.1 q9
      refine ru_iconst hX dX0_plain_20 (fun _ => ?_)
      exact ru_ireturn hX dX0_plain_21 (Or.inl rfl) ⟨Nat.zero_le _, Nat.zero_le _⟩ (fun _ => h)
theorem bX0_plain_59 {cs ss : Nat → Option (Nat × eh_T)} {lim : Nat × Nat} {Rt : Option eh_V → eh_S → Prop} {X : eh_X} (hX : eh_Ru eh_nX eh_fl0 eh_kn0 cs ss lim Rt 0 cX0_plain X)  {σ : eh_S}  {o0 : Option eh_V} {o1 : Option eh_V} {s0 : Int}  (h : eh_ok σ → Rt (some (.inl s0)) σ) : X 59 [o0, o1] [.inl s0] σ (0, 0) := by
  refine ru_ok hX (fun hok => ?_)
  replace h := h hok
  exact ru_ireturn hX dX0_plain_59 (Or.inl rfl) ⟨Nat.zero_le _, Nat.zero_le _⟩ (fun _ => h)
theorem bX0_count_0 {cs ss : Nat → Option (Nat × eh_T)} {lim : Nat × Nat} {Rt : Option eh_V → eh_S → Prop} {X : eh_X} (hX : eh_Ru eh_nX eh_fl0 eh_kn0 cs ss lim Rt 0 cX0_count X) {T193 : eh_T} (hc193 : cs 193 = some (3, T193)) {σ : eh_S}  {a1 : Int}  (h : eh_ok σ → (-2147483648 ≤ a1 ∧ a1 < 2147483648) ∧ (((a1 < 0 ∨ 5 < a1) → Rt (some (.inl (-1))) σ) ∧ (a1 = 0 → Rt (some (.inl (σ.1 118 0))) σ) ∧ (a1 = 1 → Rt (some (.inl (σ.1 105 0))) σ) ∧ (a1 = 2 → Rt (some (.inl ((σ.1 106 0) - (σ.1 105 0)))) σ) ∧ (a1 = 3 → Rt (some (.inl (σ.1 107 0))) σ) ∧ (a1 = 4 → Rt (some (.inl (σ.1 108 0))) σ) ∧ (a1 = 5 → T193 [.inr (some (0, 0)), .inl 0, .inl (σ.1 118 0)] σ (0, 0) (fun r σ1 => X 79 [some (.inr (some (0, 0))), some (.inl a1)] (r.toList ++ []) σ1 (0, 0))))) : X 0 [some (.inr (some (0, 0))), some (.inl a1)] [] σ (0, 0) := by
  refine ru_ok hX (fun hok => ?_)
  replace h := h hok
  refine ru_iload_n hX dX0_count_0 rfl (fun _ => ?_)
  obtain ⟨k1, h⟩ := h
  refine ru_tsw (tgt := 80) hX dX0_count_1 (by decide) k1 (fun q => ?_) (fun q1 q2 => ?_)
  · replace h := h.1 q
    refine ru_iconst hX dX0_count_80 (fun _ => ?_)
    exact ru_ireturn hX dX0_count_81 (Or.inl rfl) ⟨Nat.zero_le _, Nat.zero_le _⟩ (fun _ => h)
  · replace h := h.2
    rcases (show a1 = 0 ∨ a1 = 1 ∨ a1 = 2 ∨ a1 = 3 ∨ a1 = 4 ∨ a1 = 5 by omega) with q | q | q | q | q | q
    · refine ⟨39, 40, by rw [q]; rfl, by decide, ?_⟩
      replace h := h.1 q
      refine ru_aload_n hX dX0_count_40 rfl (fun _ => ?_)
      refine ru_get (v := .inl (σ.1 118 0)) hX dX0_count_41 rfl ⟨by decide, by decide⟩ rfl (fun _ => ?_)
      exact ru_ireturn hX dX0_count_44 (Or.inl rfl) ⟨Nat.zero_le _, Nat.zero_le _⟩ (fun _ => h)
    · refine ⟨44, 45, by rw [q]; rfl, by decide, ?_⟩
      replace h := h.2.1 q
      refine ru_aload_n hX dX0_count_45 rfl (fun _ => ?_)
      refine ru_get (v := .inl (σ.1 105 0)) hX dX0_count_46 rfl ⟨by decide, by decide⟩ rfl (fun _ => ?_)
      exact ru_ireturn hX dX0_count_49 (Or.inl rfl) ⟨Nat.zero_le _, Nat.zero_le _⟩ (fun _ => h)
    · refine ⟨49, 50, by rw [q]; rfl, by decide, ?_⟩
      replace h := h.2.2.1 q
      refine ru_aload_n hX dX0_count_50 rfl (fun _ => ?_)
      refine ru_get (v := .inl (σ.1 106 0)) hX dX0_count_51 rfl ⟨by decide, by decide⟩ rfl (fun _ => ?_)
      refine ru_aload_n hX dX0_count_54 rfl (fun _ => ?_)
      refine ru_get (v := .inl (σ.1 105 0)) hX dX0_count_55 rfl ⟨by decide, by decide⟩ rfl (fun _ => ?_)
      refine ru_isub hX dX0_count_58 (fun _ => ?_)
      exact ru_ireturn hX dX0_count_59 (Or.inl rfl) ⟨Nat.zero_le _, Nat.zero_le _⟩ (fun _ => h)
    · refine ⟨59, 60, by rw [q]; rfl, by decide, ?_⟩
      replace h := h.2.2.2.1 q
      refine ru_aload_n hX dX0_count_60 rfl (fun _ => ?_)
      refine ru_get (v := .inl (σ.1 107 0)) hX dX0_count_61 rfl ⟨by decide, by decide⟩ rfl (fun _ => ?_)
      exact ru_ireturn hX dX0_count_64 (Or.inl rfl) ⟨Nat.zero_le _, Nat.zero_le _⟩ (fun _ => h)
    · refine ⟨64, 65, by rw [q]; rfl, by decide, ?_⟩
      replace h := h.2.2.2.2.1 q
      refine ru_aload_n hX dX0_count_65 rfl (fun _ => ?_)
      refine ru_get (v := .inl (σ.1 108 0)) hX dX0_count_66 rfl ⟨by decide, by decide⟩ rfl (fun _ => ?_)
      exact ru_ireturn hX dX0_count_69 (Or.inl rfl) ⟨Nat.zero_le _, Nat.zero_le _⟩ (fun _ => h)
    · refine ⟨69, 70, by rw [q]; rfl, by decide, ?_⟩
      replace h := h.2.2.2.2.2 q
      refine ru_aload_n hX dX0_count_70 rfl (fun _ => ?_)
      refine ru_iconst hX dX0_count_71 (fun _ => ?_)
      refine ru_aload_n hX dX0_count_72 rfl (fun _ => ?_)
      refine ru_get (v := .inl (σ.1 118 0)) hX dX0_count_73 rfl ⟨by decide, by decide⟩ rfl (fun _ => ?_)
      exact ru_callV (as := [.inr (some (0, 0)), .inl 0, .inl (σ.1 118 0)]) (rest := []) hX dX0_count_76 hc193 rfl (Nat.le_of_ble_eq_true rfl) (0, 0) ⟨Nat.zero_le _, Nat.zero_le _⟩ h
theorem bX0_count_79 {cs ss : Nat → Option (Nat × eh_T)} {lim : Nat × Nat} {Rt : Option eh_V → eh_S → Prop} {X : eh_X} (hX : eh_Ru eh_nX eh_fl0 eh_kn0 cs ss lim Rt 0 cX0_count X)  {σ : eh_S}  {o0 : Option eh_V} {o1 : Option eh_V} {s0 : Int}  (h : eh_ok σ → Rt (some (.inl s0)) σ) : X 79 [o0, o1] [.inl s0] σ (0, 0) := by
  refine ru_ok hX (fun hok => ?_)
  replace h := h hok
  exact ru_ireturn hX dX0_count_79 (Or.inl rfl) ⟨Nat.zero_le _, Nat.zero_le _⟩ (fun _ => h)
theorem bX0_is_0 {cs ss : Nat → Option (Nat × eh_T)} {lim : Nat × Nat} {Rt : Option eh_V → eh_S → Prop} {X : eh_X} (hX : eh_Ru eh_nX eh_fl0 eh_kn0 cs ss lim Rt 0 cX0_is X) {T77 : eh_T} (hc77 : ss 77 = some (3, T77)) {σ : eh_S}  {a1 : Int} {a2 : Int}  (h : eh_ok σ → T77 [.inl a1, .inl 0, .inl 15] σ (0, 0) (fun r σ1 => X 7 [some (.inr (some (0, 0))), some (.inl a1), some (.inl a2)] (r.toList ++ []) σ1 (0, 0))) : X 0 [some (.inr (some (0, 0))), some (.inl a1), some (.inl a2)] [] σ (0, 0) := by
  refine ru_ok hX (fun hok => ?_)
  replace h := h hok
  refine ru_iload_n hX dX0_is_0 rfl (fun _ => ?_)
  refine ru_iconst hX dX0_is_1 (fun _ => ?_)
  refine ru_bipush hX dX0_is_2 (by decide) (fun _ => ?_)
  exact ru_callS (as := [.inl a1, .inl 0, .inl 15]) (rest := []) hX dX0_is_4 hc77 rfl (Nat.le_of_ble_eq_true rfl) (0, 0) ⟨Nat.zero_le _, Nat.zero_le _⟩ h
theorem bX0_is_7 {cs ss : Nat → Option (Nat × eh_T)} {lim : Nat × Nat} {Rt : Option eh_V → eh_S → Prop} {X : eh_X} (hX : eh_Ru eh_nX eh_fl0 eh_kn0 cs ss lim Rt 0 cX0_is X) {T77 : eh_T} (hc77 : ss 77 = some (3, T77)) {σ : eh_S}  {a1 : Int} {a2 : Int} {s0 : Int}  (h : eh_ok σ → (-2147483648 ≤ s0 ∧ s0 < 2147483648) ∧ ((s0 = 0 → Rt (some (.inl (-1))) σ) ∧ (¬ s0 = 0 → T77 [.inl a2, .inl 0, .inl 15] σ (0, 0) (fun r σ1 => X 17 [some (.inr (some (0, 0))), some (.inl a1), some (.inl a2)] (r.toList ++ []) σ1 (0, 0))))) : X 7 [some (.inr (some (0, 0))), some (.inl a1), some (.inl a2)] [.inl s0] σ (0, 0) := by
  refine ru_ok hX (fun hok => ?_)
  replace h := h hok
  obtain ⟨k1, h⟩ := h
  refine ru_if_eq (tgt := 20) hX dX0_is_7 (by decide) k1 (fun q => ?_) (fun q => ?_)
  · have q2 := q
    replace h := h.1 q2
    refine ru_iconst hX dX0_is_20 (fun _ => ?_)
    refine ru_goto (tgt := 38) hX dX0_is_21 (by decide) ?_
    exact ru_ireturn hX dX0_is_38 (Or.inl rfl) ⟨Nat.zero_le _, Nat.zero_le _⟩ (fun _ => h)
  · have q3 := q
    replace h := h.2 q3
    refine ru_iload_n hX dX0_is_10 rfl (fun _ => ?_)
    refine ru_iconst hX dX0_is_11 (fun _ => ?_)
    refine ru_bipush hX dX0_is_12 (by decide) (fun _ => ?_)
    exact ru_callS (as := [.inl a2, .inl 0, .inl 15]) (rest := []) hX dX0_is_14 hc77 rfl (Nat.le_of_ble_eq_true rfl) (0, 0) ⟨Nat.zero_le _, Nat.zero_le _⟩ h
theorem bX0_is_17 {cs ss : Nat → Option (Nat × eh_T)} {lim : Nat × Nat} {Rt : Option eh_V → eh_S → Prop} {X : eh_X} (hX : eh_Ru eh_nX eh_fl0 eh_kn0 cs ss lim Rt 0 cX0_is X) {T212 : eh_T} (hc212 : cs 212 = some (3, T212)) {σ : eh_S}  {a1 : Int} {a2 : Int} {s0 : Int}  (h : eh_ok σ → (-2147483648 ≤ s0 ∧ s0 < 2147483648) ∧ ((s0 = 0 → Rt (some (.inl (-1))) σ) ∧ (¬ s0 = 0 → T212 [.inr (some (0, 0)), .inl a1, .inl a2] σ (0, 0) (fun r σ1 => X 30 [some (.inr (some (0, 0))), some (.inl a1), some (.inl a2)] (r.toList ++ []) σ1 (0, 0))))) : X 17 [some (.inr (some (0, 0))), some (.inl a1), some (.inl a2)] [.inl s0] σ (0, 0) := by
  refine ru_ok hX (fun hok => ?_)
  replace h := h hok
  obtain ⟨k1, h⟩ := h
  refine ru_if_ne (tgt := 24) hX dX0_is_17 (by decide) k1 (fun q => ?_) (fun q => ?_)
  · have q2 := q
    replace h := h.2 q2
    refine ru_aload_n hX dX0_is_24 rfl (fun _ => ?_)
    refine ru_iload_n hX dX0_is_25 rfl (fun _ => ?_)
    refine ru_iload_n hX dX0_is_26 rfl (fun _ => ?_)
    exact ru_callV (as := [.inr (some (0, 0)), .inl a1, .inl a2]) (rest := []) hX dX0_is_27 hc212 rfl (Nat.le_of_ble_eq_true rfl) (0, 0) ⟨Nat.zero_le _, Nat.zero_le _⟩ h
  · have q3 := q
    replace h := h.1 q3
    refine ru_iconst hX dX0_is_20 (fun _ => ?_)
    refine ru_goto (tgt := 38) hX dX0_is_21 (by decide) ?_
    exact ru_ireturn hX dX0_is_38 (Or.inl rfl) ⟨Nat.zero_le _, Nat.zero_le _⟩ (fun _ => h)
theorem bX0_is_30 {cs ss : Nat → Option (Nat × eh_T)} {lim : Nat × Nat} {Rt : Option eh_V → eh_S → Prop} {X : eh_X} (hX : eh_Ru eh_nX eh_fl0 eh_kn0 cs ss lim Rt 0 cX0_is X)  {σ : eh_S}  {o0 : Option eh_V} {o1 : Option eh_V} {o2 : Option eh_V} {s0 : Int}  (h : eh_ok σ → (-2147483648 ≤ s0 ∧ s0 < 2147483648) ∧ ((s0 = 0 → Rt (some (.inl 0)) σ) ∧ (¬ s0 = 0 → Rt (some (.inl 1)) σ))) : X 30 [o0, o1, o2] [.inl s0] σ (0, 0) := by
  refine ru_ok hX (fun hok => ?_)
  replace h := h hok
  obtain ⟨k1, h⟩ := h
  refine ru_if_eq (tgt := 37) hX dX0_is_30 (by decide) k1 (fun q => ?_) (fun q => ?_)
  · have q2 := q
    replace h := h.1 q2
    refine ru_iconst hX dX0_is_37 (fun _ => ?_)
    exact ru_ireturn hX dX0_is_38 (Or.inl rfl) ⟨Nat.zero_le _, Nat.zero_le _⟩ (fun _ => h)
  · have q3 := q
    replace h := h.2 q3
    refine ru_iconst hX dX0_is_33 (fun _ => ?_)
    refine ru_goto (tgt := 38) hX dX0_is_34 (by decide) ?_
    exact ru_ireturn hX dX0_is_38 (Or.inl rfl) ⟨Nat.zero_le _, Nat.zero_le _⟩ (fun _ => h)
