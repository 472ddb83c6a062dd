/-! block rows of class X4: printed by gen_blocks.py -/
set_option maxRecDepth 100000
theorem bX4_parent_0 {cs ss : Nat → Option (Nat × eh_T)} {lim : Nat × Nat} {Rt : Option eh_V → eh_S → Prop} {X : eh_X} (hX : eh_Ru eh_nX eh_fl4 eh_kn4 cs ss lim Rt 0 cX4_parent X) {T136 : eh_T} (hc136 : ss 136 = some (1, T136)) {σ : eh_S}  {a1 : Int} {a2 : Int} {o3 : Option eh_V}  (h : eh_ok σ → T136 [.inl a1] σ (0, 0) (fun r σ1 => X 4 [some (.inr (some (4, 0))), some (.inl a1), some (.inl a2), o3] (r.toList ++ []) σ1 (0, 0))) : X 0 [some (.inr (some (4, 0))), some (.inl a1), some (.inl a2), o3] [] σ (0, 0) := by
  refine ru_ok hX (fun hok => ?_)
  replace h := h hok
  refine ru_iload_n hX dX4_parent_0 rfl (fun _ => ?_)
  exact ru_callS (as := [.inl a1]) (rest := []) hX dX4_parent_1 hc136 rfl (Nat.le_of_ble_eq_true rfl) (0, 0) ⟨Nat.zero_le _, Nat.zero_le _⟩ h
theorem bX4_parent_4 {cs ss : Nat → Option (Nat × eh_T)} {lim : Nat × Nat} {Rt : Option eh_V → eh_S → Prop} {X : eh_X} (hX : eh_Ru eh_nX eh_fl4 eh_kn4 cs ss lim Rt 0 cX4_parent X)  {σ : eh_S}  {a1 : Int} {a2 : Int} {o3 : Option eh_V} {s0 : Int}  (h : eh_ok σ → (-2147483648 ≤ s0 ∧ s0 < 2147483648) ∧ ((s0 = 0 → Rt (some (.inl (-2))) σ) ∧ (¬ s0 = 0 → (-2147483648 ≤ a2 ∧ a2 < 2147483648) ∧ ((a2 < (-1) → Rt (some (.inl (-2))) σ) ∧ (¬ a2 < (-1) → (-2147483648 ≤ a1 ∧ a1 < 2147483648) ∧ ((a2 < a1 → X 22 [some (.inr (some (4, 0))), some (.inl a1), some (.inl a2), some (.inl 0)] [] σ (0, 0)) ∧ (¬ a2 < a1 → Rt (some (.inl (-2))) σ))))))) : X 4 [some (.inr (some (4, 0))), some (.inl a1), some (.inl a2), o3] [.inl s0] σ (0, 0) := by
  refine ru_ok hX (fun hok => ?_)
  replace h := h hok
  obtain ⟨k1, h⟩ := h
  refine ru_if_eq (tgt := 17) hX dX4_parent_4 (by decide) k1 (fun q => ?_) (fun q => ?_)
  · have q2 := q
    replace h := h.1 q2
    refine ru_bipush hX dX4_parent_17 (by decide) (fun _ => ?_)
    exact ru_ireturn hX dX4_parent_19 (Or.inl rfl) ⟨Nat.zero_le _, Nat.zero_le _⟩ (fun _ => h)
  · have q3 := q
    replace h := h.2 q3
    refine ru_iload_n hX dX4_parent_7 rfl (fun _ => ?_)
    refine ru_iconst hX dX4_parent_8 (fun _ => ?_)
    obtain ⟨k4, h⟩ := h
    refine ru_icmp_lt (tgt := 17) hX dX4_parent_9 (by decide) k4 (by unfold eh_r; decide) (fun q => ?_) (fun q => ?_)
    · have q5 := q
      replace h := h.1 q5
      refine ru_bipush hX dX4_parent_17 (by decide) (fun _ => ?_)
      exact ru_ireturn hX dX4_parent_19 (Or.inl rfl) ⟨Nat.zero_le _, Nat.zero_le _⟩ (fun _ => h)
    · have q6 := q
      replace h := h.2 q6
      refine ru_iload_n hX dX4_parent_12 rfl (fun _ => ?_)
      refine ru_iload_n hX dX4_parent_13 rfl (fun _ => ?_)
      obtain ⟨k7, h⟩ := h
      refine ru_icmp_lt (tgt := 20) hX dX4_parent_14 (by decide) k4 k7 (fun q => ?_) (fun q => ?_)
      · have q8 := q
        replace h := h.1 q8
        refine ru_iconst hX dX4_parent_20 (fun _ => ?_)
        refine ru_istore_n (ls1 := [some (.inr (some (4, 0))), some (.inl a1), some (.inl a2), some (.inl 0)]) hX dX4_parent_21 (Nat.le_of_ble_eq_true rfl) rfl (fun _ => ?_)
        exact h
      · have q9 := q
        replace h := h.2 q9
        refine ru_bipush hX dX4_parent_17 (by decide) (fun _ => ?_)
        exact ru_ireturn hX dX4_parent_19 (Or.inl rfl) ⟨Nat.zero_le _, Nat.zero_le _⟩ (fun _ => h)
theorem bX4_parent_22 {cs ss : Nat → Option (Nat × eh_T)} {lim : Nat × Nat} {Rt : Option eh_V → eh_S → Prop} {X : eh_X} (hX : eh_Ru eh_nX eh_fl4 eh_kn4 cs ss lim Rt 0 cX4_parent X)  {σ : eh_S}  {a1 : Int} {a2 : Int} {a3 : Int}  (h : eh_ok σ → (-2147483648 ≤ a3 ∧ a3 < 2147483648) ∧ ((σ.1 515 0 ≤ a3 → (0 ≤ a1 ∧ a1 < 16) ∧ (-2147483648 ≤ a2 ∧ a2 < 2147483648) ∧ Rt (some (.inl (σ.2 501 0 a1))) (eh_sA σ 501 0 a1 a2)) ∧ (¬ σ.1 515 0 ≤ a3 → (0 ≤ a3 ∧ a3 < 8) ∧ ((σ.2 521 0 a3 = 0 → X 22 [some (.inr (some (4, 0))), some (.inl a1), some (.inl a2), some (.inl (a3 + 1))] [] σ (0, 0)) ∧ (¬ σ.2 521 0 a3 = 0 → Rt (some (.inl (-3))) σ))))) : X 22 [some (.inr (some (4, 0))), some (.inl a1), some (.inl a2), some (.inl a3)] [] σ (0, 0) := by
  refine ru_ok hX (fun hok => ?_)
  replace h := h hok
  refine ru_iload_n hX dX4_parent_22 rfl (fun _ => ?_)
  refine ru_aload_n hX dX4_parent_23 rfl (fun _ => ?_)
  refine ru_get (v := .inl (σ.1 515 0)) hX dX4_parent_24 rfl ⟨by decide, by decide⟩ rfl (fun _ => ?_)
  obtain ⟨k1, h⟩ := h
  refine ru_icmp_ge (tgt := 48) hX dX4_parent_27 (by decide) k1 (hok.1 _ _) (fun q => ?_) (fun q => ?_)
  · have q2 := q
    replace h := h.1 q2
    refine ru_aload_n hX dX4_parent_48 rfl (fun _ => ?_)
    refine ru_get (v := .inr (some (501, 0))) hX dX4_parent_49 rfl ⟨by decide, by decide⟩ rfl (fun _ => ?_)
    refine ru_iload_n hX dX4_parent_52 rfl (fun _ => ?_)
    obtain ⟨k3, h⟩ := h
    refine ru_iaload hX dX4_parent_53 ⟨by decide, by decide⟩ rfl k3 (fun _ => ?_)
    refine ru_istore_n (ls1 := [some (.inr (some (4, 0))), some (.inl a1), some (.inl a2), some (.inl (σ.2 501 0 a1))]) hX dX4_parent_54 (Nat.le_of_ble_eq_true rfl) rfl (fun _ => ?_)
    refine ru_aload_n hX dX4_parent_55 rfl (fun _ => ?_)
    refine ru_get (v := .inr (some (501, 0))) hX dX4_parent_56 rfl ⟨by decide, by decide⟩ rfl (fun _ => ?_)
    refine ru_iload_n hX dX4_parent_59 rfl (fun _ => ?_)
    refine ru_iload_n hX dX4_parent_60 rfl (fun _ => ?_)
    obtain ⟨k4, h⟩ := h
    refine ru_iastore hX dX4_parent_61 ⟨by decide, by decide⟩ rfl k3 k4 (fun _ => ?_)
    refine ru_iload_n hX dX4_parent_62 rfl (fun hok5 => ?_)
    exact ru_ireturn hX dX4_parent_63 (Or.inl rfl) ⟨Nat.zero_le _, Nat.zero_le _⟩ (fun _ => h)
  · have q6 := q
    replace h := h.2 q6
    refine ru_aload_n hX dX4_parent_30 rfl (fun _ => ?_)
    refine ru_get (v := .inr (some (521, 0))) hX dX4_parent_31 rfl ⟨by decide, by decide⟩ rfl (fun _ => ?_)
    refine ru_iload_n hX dX4_parent_34 rfl (fun _ => ?_)
    obtain ⟨k7, h⟩ := h
    refine ru_zaload hX dX4_parent_35 (by decide) ⟨by decide, by decide⟩ rfl k7 (fun _ => ?_)
    refine ru_if_eq (tgt := 42) hX dX4_parent_36 (by decide) (hok.2 _ _ _ (by decide) (by decide) (by decide) (by decide)) (fun q => ?_) (fun q => ?_)
    · have q8 := q
      replace h := h.1 q8
      refine ru_iinc (ls1 := [some (.inr (some (4, 0))), some (.inl a1), some (.inl a2), some (.inl (a3 + 1))]) hX dX4_parent_42 rfl rfl (fun _ => ?_)
      refine ru_goto (tgt := 22) hX dX4_parent_45 (by decide) ?_
      exact h
    · have q9 := q
      replace h := h.2 q9
      refine ru_bipush hX dX4_parent_39 (by decide) (fun _ => ?_)
      exact ru_ireturn hX dX4_parent_41 (Or.inl rfl) ⟨Nat.zero_le _, Nat.zero_le _⟩ (fun _ => h)
theorem bX4_isKind_0 {cs ss : Nat → Option (Nat × eh_T)} {lim : Nat × Nat} {Rt : Option eh_V → eh_S → Prop} {X : eh_X} (hX : eh_Ru eh_nX eh_fl4 eh_kn4 cs ss lim Rt 1 cX4_isKind X)  {σ : eh_S}  {a0 : Int}  (h : eh_ok σ → (-2147483648 ≤ a0 ∧ a0 < 2147483648) ∧ ((a0 < 0 → Rt (some (.inl 0)) σ) ∧ (¬ a0 < 0 → ((16 ≤ a0 → Rt (some (.inl 0)) σ) ∧ (¬ 16 ≤ a0 → Rt (some (.inl 1)) σ))))) : X 0 [some (.inl a0)] [] σ (0, 0) := by
  refine ru_ok hX (fun hok => ?_)
  replace h := h hok
  refine ru_iload_n hX dX4_isKind_0 rfl (fun _ => ?_)
  obtain ⟨k1, h⟩ := h
  refine ru_if_lt (tgt := 14) hX dX4_isKind_1 (by decide) k1 (fun q => ?_) (fun q => ?_)
  · have q2 := q
    replace h := h.1 q2
    refine ru_iconst hX dX4_isKind_14 (fun _ => ?_)
    exact ru_ireturn hX dX4_isKind_15 (Or.inr ⟨rfl, by decide⟩) ⟨Nat.zero_le _, Nat.zero_le _⟩ (fun _ => h)
  · have q3 := q
    replace h := h.2 q3
    refine ru_iload_n hX dX4_isKind_4 rfl (fun _ => ?_)
    refine ru_bipush hX dX4_isKind_5 (by decide) (fun _ => ?_)
    refine ru_icmp_ge (tgt := 14) hX dX4_isKind_7 (by decide) k1 (by unfold eh_r; decide) (fun q => ?_) (fun q => ?_)
    · have q4 := q
      replace h := h.1 q4
      refine ru_iconst hX dX4_isKind_14 (fun _ => ?_)
      exact ru_ireturn hX dX4_isKind_15 (Or.inr ⟨rfl, by decide⟩) ⟨Nat.zero_le _, Nat.zero_le _⟩ (fun _ => h)
    · have q5 := q
      replace h := h.2 q5
      refine ru_iconst hX dX4_isKind_10 (fun _ => ?_)
      refine ru_goto (tgt := 15) hX dX4_isKind_11 (by decide) ?_
      exact ru_ireturn hX dX4_isKind_15 (Or.inr ⟨rfl, by decide⟩) ⟨Nat.zero_le _, Nat.zero_le _⟩ (fun _ => h)
theorem bX4_pattern_0 {cs ss : Nat → Option (Nat × eh_T)} {lim : Nat × Nat} {Rt : Option eh_V → eh_S → Prop} {X : eh_X} (hX : eh_Ru eh_nX eh_fl4 eh_kn4 cs ss lim Rt 0 cX4_pattern X)  {σ : eh_S}  {a1 : Int} {a2 : Int} {a3 : Int} {o4 : Option eh_V}  (h : eh_ok σ → (-2147483648 ≤ a1 ∧ a1 < 2147483648) ∧ ((a1 < 1 → Rt (some (.inl (-1))) σ) ∧ (¬ a1 < 1 → ((1000 < a1 → Rt (some (.inl (-1))) σ) ∧ (¬ 1000 < a1 → (-2147483648 ≤ a2 ∧ a2 < 2147483648) ∧ ((a2 < 0 → Rt (some (.inl (-1))) σ) ∧ (¬ a2 < 0 → ((1 < a2 → Rt (some (.inl (-1))) σ) ∧ (¬ 1 < a2 → (-2147483648 ≤ a3 ∧ a3 < 2147483648) ∧ ((a3 < (-1) → Rt (some (.inl (-1))) σ) ∧ (¬ a3 < (-1) → ((a3 ≤ 3 → ((σ.1 515 0 = 8 → Rt (some (.inl (-4))) σ) ∧ (¬ σ.1 515 0 = 8 → (0 ≤ σ.1 515 0 ∧ σ.1 515 0 < 8) ∧ (-2147483648 ≤ (σ.1 515 0) + 1 ∧ (σ.1 515 0) + 1 < 2147483648) ∧ Rt (some (.inl (σ.1 515 0))) (eh_sV (eh_sA (eh_sA (eh_sA (eh_sA (eh_sA (eh_sA (eh_sA (eh_sA σ 516 0 (σ.1 515 0) a1) 517 0 (σ.1 515 0) a2) 518 0 (σ.1 515 0) a3) 519 0 (σ.1 515 0) 0) 521 0 (σ.1 515 0) 0) 522 0 (σ.1 515 0) 0) 523 0 (σ.1 515 0) 0) 529 0 (σ.1 515 0) 0) 515 0 ((σ.1 515 0) + 1))))) ∧ (¬ a3 ≤ 3 → Rt (some (.inl (-1))) σ))))))))))))) : X 0 [some (.inr (some (4, 0))), some (.inl a1), some (.inl a2), some (.inl a3), o4] [] σ (0, 0) := by
  refine ru_ok hX (fun hok => ?_)
  replace h := h hok
  refine ru_iload_n hX dX4_pattern_0 rfl (fun _ => ?_)
  refine ru_iconst hX dX4_pattern_1 (fun _ => ?_)
  obtain ⟨k1, h⟩ := h
  refine ru_icmp_lt (tgt := 31) hX dX4_pattern_2 (by decide) k1 (by unfold eh_r; decide) (fun q => ?_) (fun q => ?_)
  · have q2 := q
    replace h := h.1 q2
    refine ru_iconst hX dX4_pattern_31 (fun _ => ?_)
    exact ru_ireturn hX dX4_pattern_32 (Or.inl rfl) ⟨Nat.zero_le _, Nat.zero_le _⟩ (fun _ => h)
  · have q3 := q
    replace h := h.2 q3
    refine ru_iload_n hX dX4_pattern_5 rfl (fun _ => ?_)
    refine ru_sipush hX dX4_pattern_6 (by decide) (fun _ => ?_)
    refine ru_icmp_gt (tgt := 31) hX dX4_pattern_9 (by decide) k1 (by unfold eh_r; decide) (fun q => ?_) (fun q => ?_)
    · have q4 := q
      replace h := h.1 q4
      refine ru_iconst hX dX4_pattern_31 (fun _ => ?_)
      exact ru_ireturn hX dX4_pattern_32 (Or.inl rfl) ⟨Nat.zero_le _, Nat.zero_le _⟩ (fun _ => h)
    · have q5 := q
      replace h := h.2 q5
      refine ru_iload_n hX dX4_pattern_12 rfl (fun _ => ?_)
      obtain ⟨k6, h⟩ := h
      refine ru_if_lt (tgt := 31) hX dX4_pattern_13 (by decide) k6 (fun q => ?_) (fun q => ?_)
      · have q7 := q
        replace h := h.1 q7
        refine ru_iconst hX dX4_pattern_31 (fun _ => ?_)
        exact ru_ireturn hX dX4_pattern_32 (Or.inl rfl) ⟨Nat.zero_le _, Nat.zero_le _⟩ (fun _ => h)
      · have q8 := q
        replace h := h.2 q8
        refine ru_iload_n hX dX4_pattern_16 rfl (fun _ => ?_)
        refine ru_iconst hX dX4_pattern_17 (fun _ => ?_)
        refine ru_icmp_gt (tgt := 31) hX dX4_pattern_18 (by decide) k6 (by unfold eh_r; decide) (fun q => ?_) (fun q => ?_)
        · have q9 := q
          replace h := h.1 q9
          refine ru_iconst hX dX4_pattern_31 (fun _ => ?_)
          exact ru_ireturn hX dX4_pattern_32 (Or.inl rfl) ⟨Nat.zero_le _, Nat.zero_le _⟩ (fun _ => h)
        · have q10 := q
          replace h := h.2 q10
          refine ru_iload_n hX dX4_pattern_21 rfl (fun _ => ?_)
          refine ru_iconst hX dX4_pattern_22 (fun _ => ?_)
          obtain ⟨k11, h⟩ := h
          refine ru_icmp_lt (tgt := 31) hX dX4_pattern_23 (by decide) k11 (by unfold eh_r; decide) (fun q => ?_) (fun q => ?_)
          · have q12 := q
            replace h := h.1 q12
            refine ru_iconst hX dX4_pattern_31 (fun _ => ?_)
            exact ru_ireturn hX dX4_pattern_32 (Or.inl rfl) ⟨Nat.zero_le _, Nat.zero_le _⟩ (fun _ => h)
          · have q13 := q
            replace h := h.2 q13
            refine ru_iload_n hX dX4_pattern_26 rfl (fun _ => ?_)
            refine ru_iconst hX dX4_pattern_27 (fun _ => ?_)
            refine ru_icmp_le (tgt := 33) hX dX4_pattern_28 (by decide) k11 (by unfold eh_r; decide) (fun q => ?_) (fun q => ?_)
            · have q14 := q
              replace h := h.1 q14
              refine ru_aload_n hX dX4_pattern_33 rfl (fun _ => ?_)
              refine ru_get (v := .inl (σ.1 515 0)) hX dX4_pattern_34 rfl ⟨by decide, by decide⟩ rfl (fun _ => ?_)
              refine ru_bipush hX dX4_pattern_37 (by decide) (fun _ => ?_)
              refine ru_icmp_ne (tgt := 45) hX dX4_pattern_39 (by decide) (hok.1 _ _) (by unfold eh_r; decide) (fun q => ?_) (fun q => ?_)
              · have q15 := q
                replace h := h.2 q15
                refine ru_aload_n hX dX4_pattern_45 rfl (fun _ => ?_)
                refine ru_get (v := .inl (σ.1 515 0)) hX dX4_pattern_46 rfl ⟨by decide, by decide⟩ rfl (fun _ => ?_)
                refine ru_istore (ls1 := [some (.inr (some (4, 0))), some (.inl a1), some (.inl a2), some (.inl a3), some (.inl (σ.1 515 0))]) hX dX4_pattern_49 (Nat.le_of_ble_eq_true rfl) rfl (fun _ => ?_)
                refine ru_aload_n hX dX4_pattern_51 rfl (fun _ => ?_)
                refine ru_get (v := .inr (some (516, 0))) hX dX4_pattern_52 rfl ⟨by decide, by decide⟩ rfl (fun _ => ?_)
                refine ru_iload hX dX4_pattern_55 rfl (fun _ => ?_)
                refine ru_iload_n hX dX4_pattern_57 rfl (fun _ => ?_)
                obtain ⟨k16, h⟩ := h
                refine ru_iastore hX dX4_pattern_58 ⟨by decide, by decide⟩ rfl k16 k1 (fun _ => ?_)
                refine ru_aload_n hX dX4_pattern_59 rfl (fun hok17 => ?_)
                refine ru_get (v := .inr (some (517, 0))) hX dX4_pattern_60 rfl ⟨by decide, by decide⟩ rfl (fun _ => ?_)
                refine ru_iload hX dX4_pattern_63 rfl (fun _ => ?_)
                refine ru_iload_n hX dX4_pattern_65 rfl (fun _ => ?_)
                refine ru_iastore hX dX4_pattern_66 ⟨by decide, by decide⟩ rfl k16 k6 (fun _ => ?_)
                refine ru_aload_n hX dX4_pattern_67 rfl (fun hok18 => ?_)
                refine ru_get (v := .inr (some (518, 0))) hX dX4_pattern_68 rfl ⟨by decide, by decide⟩ rfl (fun _ => ?_)
                refine ru_iload hX dX4_pattern_71 rfl (fun _ => ?_)
                refine ru_iload_n hX dX4_pattern_73 rfl (fun _ => ?_)
                refine ru_iastore hX dX4_pattern_74 ⟨by decide, by decide⟩ rfl k16 k11 (fun _ => ?_)
                refine ru_aload_n hX dX4_pattern_75 rfl (fun hok19 => ?_)
                refine ru_get (v := .inr (some (519, 0))) hX dX4_pattern_76 rfl ⟨by decide, by decide⟩ rfl (fun _ => ?_)
                refine ru_iload hX dX4_pattern_79 rfl (fun _ => ?_)
                refine ru_iconst hX dX4_pattern_81 (fun _ => ?_)
                refine ru_iastore hX dX4_pattern_82 ⟨by decide, by decide⟩ rfl k16 (by unfold eh_r; decide) (fun _ => ?_)
                refine ru_aload_n hX dX4_pattern_83 rfl (fun hok20 => ?_)
                refine ru_get (v := .inr (some (521, 0))) hX dX4_pattern_84 rfl ⟨by decide, by decide⟩ rfl (fun _ => ?_)
                refine ru_iload hX dX4_pattern_87 rfl (fun _ => ?_)
                refine ru_iconst hX dX4_pattern_89 (fun _ => ?_)
                refine ru_zastore hX dX4_pattern_90 (by decide) ⟨by decide, by decide⟩ rfl k16 (by decide) (fun _ => ?_)
                refine ru_aload_n hX dX4_pattern_91 rfl (fun hok21 => ?_)
                refine ru_get (v := .inr (some (522, 0))) hX dX4_pattern_92 rfl ⟨by decide, by decide⟩ rfl (fun _ => ?_)
                refine ru_iload hX dX4_pattern_95 rfl (fun _ => ?_)
                refine ru_iconst hX dX4_pattern_97 (fun _ => ?_)
                refine ru_zastore hX dX4_pattern_98 (by decide) ⟨by decide, by decide⟩ rfl k16 (by decide) (fun _ => ?_)
                refine ru_aload_n hX dX4_pattern_99 rfl (fun hok22 => ?_)
                refine ru_get (v := .inr (some (523, 0))) hX dX4_pattern_100 rfl ⟨by decide, by decide⟩ rfl (fun _ => ?_)
                refine ru_iload hX dX4_pattern_103 rfl (fun _ => ?_)
                refine ru_iconst hX dX4_pattern_105 (fun _ => ?_)
                refine ru_iastore hX dX4_pattern_106 ⟨by decide, by decide⟩ rfl k16 (by unfold eh_r; decide) (fun _ => ?_)
                refine ru_aload_n hX dX4_pattern_107 rfl (fun hok23 => ?_)
                refine ru_get (v := .inr (some (529, 0))) hX dX4_pattern_108 rfl ⟨by decide, by decide⟩ rfl (fun _ => ?_)
                refine ru_iload hX dX4_pattern_111 rfl (fun _ => ?_)
                refine ru_iconst hX dX4_pattern_113 (fun _ => ?_)
                refine ru_iastore hX dX4_pattern_114 ⟨by decide, by decide⟩ rfl k16 (by unfold eh_r; decide) (fun _ => ?_)
                refine ru_aload_n hX dX4_pattern_115 rfl (fun hok24 => ?_)
                refine ru_dup hX dX4_pattern_116 (fun _ => ?_)
                refine ru_get (v := .inl (σ.1 515 0)) hX dX4_pattern_117 rfl ⟨by decide, by decide⟩ rfl (fun _ => ?_)
                refine ru_iconst hX dX4_pattern_120 (fun _ => ?_)
                refine ru_iadd hX dX4_pattern_121 (fun _ => ?_)
                obtain ⟨k25, h⟩ := h
                refine ru_putI (id := 515) hX dX4_pattern_122 rfl ⟨by decide, by decide⟩ rfl k25 rfl (fun _ => ?_)
                refine ru_iload hX dX4_pattern_125 rfl (fun hok26 => ?_)
                exact ru_ireturn hX dX4_pattern_127 (Or.inl rfl) ⟨Nat.zero_le _, Nat.zero_le _⟩ (fun _ => h)
              · have q27 := q
                replace h := h.1 q27
                refine ru_bipush hX dX4_pattern_42 (by decide) (fun _ => ?_)
                exact ru_ireturn hX dX4_pattern_44 (Or.inl rfl) ⟨Nat.zero_le _, Nat.zero_le _⟩ (fun _ => h)
            · have q28 := q
              replace h := h.2 q28
              refine ru_iconst hX dX4_pattern_31 (fun _ => ?_)
              exact ru_ireturn hX dX4_pattern_32 (Or.inl rfl) ⟨Nat.zero_le _, Nat.zero_le _⟩ (fun _ => h)
theorem bX4_step_0 {cs ss : Nat → Option (Nat × eh_T)} {lim : Nat × Nat} {Rt : Option eh_V → eh_S → Prop} {X : eh_X} (hX : eh_Ru eh_nX eh_fl4 eh_kn4 cs ss lim Rt 0 cX4_step X) {T143 : eh_T} (hc143 : cs 143 = some (2, T143)) {σ : eh_S}  {a1 : Int} {a2 : Int} {a3 : Int} {a4 : Int} {a5 : Int} {a6 : Int} {o7 : Option eh_V}  (h : eh_ok σ → T143 [.inr (some (4, 0)), .inl a1] σ (0, 0) (fun r σ1 => X 5 [some (.inr (some (4, 0))), some (.inl a1), some (.inl a2), some (.inl a3), some (.inl a4), some (.inl a5), some (.inl a6), o7] (r.toList ++ []) σ1 (0, 0))) : X 0 [some (.inr (some (4, 0))), some (.inl a1), some (.inl a2), some (.inl a3), some (.inl a4), some (.inl a5), some (.inl a6), o7] [] σ (0, 0) := by
  refine ru_ok hX (fun hok => ?_)
  replace h := h hok
  refine ru_aload_n hX dX4_step_0 rfl (fun _ => ?_)
  refine ru_iload_n hX dX4_step_1 rfl (fun _ => ?_)
  exact ru_callV (as := [.inr (some (4, 0)), .inl a1]) (rest := []) hX dX4_step_2 hc143 rfl (Nat.le_of_ble_eq_true rfl) (0, 0) ⟨Nat.zero_le _, Nat.zero_le _⟩ h
theorem bX4_step_5 {cs ss : Nat → Option (Nat × eh_T)} {lim : Nat × Nat} {Rt : Option eh_V → eh_S → Prop} {X : eh_X} (hX : eh_Ru eh_nX eh_fl4 eh_kn4 cs ss lim Rt 0 cX4_step X) {T136 : eh_T} (hc136 : ss 136 = some (1, T136)) {σ : eh_S}  {a1 : Int} {a2 : Int} {a3 : Int} {a4 : Int} {a5 : Int} {a6 : Int} {o7 : Option eh_V} {s0 : Int}  (h : eh_ok σ → (-2147483648 ≤ s0 ∧ s0 < 2147483648) ∧ ((s0 = 0 → Rt (some (.inl (-1))) σ) ∧ (¬ s0 = 0 → (-2147483648 ≤ a2 ∧ a2 < 2147483648) ∧ ((a2 < 0 → Rt (some (.inl (-1))) σ) ∧ (¬ a2 < 0 → ((3 < a2 → Rt (some (.inl (-1))) σ) ∧ (¬ 3 < a2 → T136 [.inl a3] σ (0, 0) (fun r σ1 => X 21 [some (.inr (some (4, 0))), some (.inl a1), some (.inl a2), some (.inl a3), some (.inl a4), some (.inl a5), some (.inl a6), o7] (r.toList ++ []) σ1 (0, 0))))))))) : X 5 [some (.inr (some (4, 0))), some (.inl a1), some (.inl a2), some (.inl a3), some (.inl a4), some (.inl a5), some (.inl a6), o7] [.inl s0] σ (0, 0) := by
  refine ru_ok hX (fun hok => ?_)
  replace h := h hok
  obtain ⟨k1, h⟩ := h
  refine ru_if_eq (tgt := 51) hX dX4_step_5 (by decide) k1 (fun q => ?_) (fun q => ?_)
  · have q2 := q
    replace h := h.1 q2
    refine ru_iconst hX dX4_step_51 (fun _ => ?_)
    exact ru_ireturn hX dX4_step_52 (Or.inl rfl) ⟨Nat.zero_le _, Nat.zero_le _⟩ (fun _ => h)
  · have q3 := q
    replace h := h.2 q3
    refine ru_iload_n hX dX4_step_8 rfl (fun _ => ?_)
    obtain ⟨k4, h⟩ := h
    refine ru_if_lt (tgt := 51) hX dX4_step_9 (by decide) k4 (fun q => ?_) (fun q => ?_)
    · have q5 := q
      replace h := h.1 q5
      refine ru_iconst hX dX4_step_51 (fun _ => ?_)
      exact ru_ireturn hX dX4_step_52 (Or.inl rfl) ⟨Nat.zero_le _, Nat.zero_le _⟩ (fun _ => h)
    · have q6 := q
      replace h := h.2 q6
      refine ru_iload_n hX dX4_step_12 rfl (fun _ => ?_)
      refine ru_iconst hX dX4_step_13 (fun _ => ?_)
      refine ru_icmp_gt (tgt := 51) hX dX4_step_14 (by decide) k4 (by unfold eh_r; decide) (fun q => ?_) (fun q => ?_)
      · have q7 := q
        replace h := h.1 q7
        refine ru_iconst hX dX4_step_51 (fun _ => ?_)
        exact ru_ireturn hX dX4_step_52 (Or.inl rfl) ⟨Nat.zero_le _, Nat.zero_le _⟩ (fun _ => h)
      · have q8 := q
        replace h := h.2 q8
        refine ru_iload_n hX dX4_step_17 rfl (fun _ => ?_)
        exact ru_callS (as := [.inl a3]) (rest := []) hX dX4_step_18 hc136 rfl (Nat.le_of_ble_eq_true rfl) (0, 0) ⟨Nat.zero_le _, Nat.zero_le _⟩ h
theorem bX4_step_21 {cs ss : Nat → Option (Nat × eh_T)} {lim : Nat × Nat} {Rt : Option eh_V → eh_S → Prop} {X : eh_X} (hX : eh_Ru eh_nX eh_fl4 eh_kn4 cs ss lim Rt 0 cX4_step X) {T146 : eh_T} (hc146 : ss 146 = some (4, T146)) {σ : eh_S}  {a1 : Int} {a2 : Int} {a3 : Int} {a4 : Int} {a5 : Int} {a6 : Int} {o7 : Option eh_V} {s0 : Int}  (h : eh_ok σ → (-2147483648 ≤ s0 ∧ s0 < 2147483648) ∧ ((s0 = 0 → Rt (some (.inl (-1))) σ) ∧ (¬ s0 = 0 → (0 ≤ a1 ∧ a1 < 8) ∧ T146 [.inl a4, .inl a5, .inl a6, .inl (σ.2 519 0 a1)] σ (0, 0) (fun r σ1 => X 39 [some (.inr (some (4, 0))), some (.inl a1), some (.inl a2), some (.inl a3), some (.inl a4), some (.inl a5), some (.inl a6), o7] (r.toList ++ []) σ1 (0, 0))))) : X 21 [some (.inr (some (4, 0))), some (.inl a1), some (.inl a2), some (.inl a3), some (.inl a4), some (.inl a5), some (.inl a6), o7] [.inl s0] σ (0, 0) := by
  refine ru_ok hX (fun hok => ?_)
  replace h := h hok
  obtain ⟨k1, h⟩ := h
  refine ru_if_eq (tgt := 51) hX dX4_step_21 (by decide) k1 (fun q => ?_) (fun q => ?_)
  · have q2 := q
    replace h := h.1 q2
    refine ru_iconst hX dX4_step_51 (fun _ => ?_)
    exact ru_ireturn hX dX4_step_52 (Or.inl rfl) ⟨Nat.zero_le _, Nat.zero_le _⟩ (fun _ => h)
  · have q3 := q
    replace h := h.2 q3
    refine ru_iload hX dX4_step_24 rfl (fun _ => ?_)
    refine ru_iload hX dX4_step_26 rfl (fun _ => ?_)
    refine ru_iload hX dX4_step_28 rfl (fun _ => ?_)
    refine ru_aload_n hX dX4_step_30 rfl (fun _ => ?_)
    refine ru_get (v := .inr (some (519, 0))) hX dX4_step_31 rfl ⟨by decide, by decide⟩ rfl (fun _ => ?_)
    refine ru_iload_n hX dX4_step_34 rfl (fun _ => ?_)
    obtain ⟨k4, h⟩ := h
    refine ru_iaload hX dX4_step_35 ⟨by decide, by decide⟩ rfl k4 (fun _ => ?_)
    exact ru_callS (as := [.inl a4, .inl a5, .inl a6, .inl (σ.2 519 0 a1)]) (rest := []) hX dX4_step_36 hc146 rfl (Nat.le_of_ble_eq_true rfl) (0, 0) ⟨Nat.zero_le _, Nat.zero_le _⟩ h
theorem bX4_step_39 {cs ss : Nat → Option (Nat × eh_T)} {lim : Nat × Nat} {Rt : Option eh_V → eh_S → Prop} {X : eh_X} (hX : eh_Ru eh_nX eh_fl4 eh_kn4 cs ss lim Rt 0 cX4_step X) {T150 : eh_T} (hc150 : cs 150 = some (3, T150)) {σ : eh_S}  {a1 : Int} {a2 : Int} {a3 : Int} {a4 : Int} {a5 : Int} {a6 : Int} {o7 : Option eh_V} {s0 : Int}  (h : eh_ok σ → (-2147483648 ≤ s0 ∧ s0 < 2147483648) ∧ ((s0 = 0 → Rt (some (.inl (-1))) σ) ∧ (¬ s0 = 0 → T150 [.inr (some (4, 0)), .inl a1, .inl a2] σ (0, 0) (fun r σ1 => X 48 [some (.inr (some (4, 0))), some (.inl a1), some (.inl a2), some (.inl a3), some (.inl a4), some (.inl a5), some (.inl a6), o7] (r.toList ++ []) σ1 (0, 0))))) : X 39 [some (.inr (some (4, 0))), some (.inl a1), some (.inl a2), some (.inl a3), some (.inl a4), some (.inl a5), some (.inl a6), o7] [.inl s0] σ (0, 0) := by
  refine ru_ok hX (fun hok => ?_)
  replace h := h hok
  obtain ⟨k1, h⟩ := h
  refine ru_if_eq (tgt := 51) hX dX4_step_39 (by decide) k1 (fun q => ?_) (fun q => ?_)
  · have q2 := q
    replace h := h.1 q2
    refine ru_iconst hX dX4_step_51 (fun _ => ?_)
    exact ru_ireturn hX dX4_step_52 (Or.inl rfl) ⟨Nat.zero_le _, Nat.zero_le _⟩ (fun _ => h)
  · have q3 := q
    replace h := h.2 q3
    refine ru_aload_n hX dX4_step_42 rfl (fun _ => ?_)
    refine ru_iload_n hX dX4_step_43 rfl (fun _ => ?_)
    refine ru_iload_n hX dX4_step_44 rfl (fun _ => ?_)
    exact ru_callV (as := [.inr (some (4, 0)), .inl a1, .inl a2]) (rest := []) hX dX4_step_45 hc150 rfl (Nat.le_of_ble_eq_true rfl) (0, 0) ⟨Nat.zero_le _, Nat.zero_le _⟩ h
theorem bX4_step_48 {cs ss : Nat → Option (Nat × eh_T)} {lim : Nat × Nat} {Rt : Option eh_V → eh_S → Prop} {X : eh_X} (hX : eh_Ru eh_nX eh_fl4 eh_kn4 cs ss lim Rt 0 cX4_step X)  {σ : eh_S}  {a1 : Int} {a2 : Int} {a3 : Int} {a4 : Int} {a5 : Int} {a6 : Int} {o7 : Option eh_V} {s0 : Int}  (h : eh_ok σ → (-2147483648 ≤ s0 ∧ s0 < 2147483648) ∧ ((s0 = 0 → Rt (some (.inl (-1))) σ) ∧ (¬ s0 = 0 → (0 ≤ a1 ∧ a1 < 8) ∧ ((σ.2 521 0 a1 = 0 → ((σ.2 519 0 a1 = 6 → Rt (some (.inl (-4))) σ) ∧ (¬ σ.2 519 0 a1 = 6 → (0 ≤ (6 * a1) + (σ.2 519 0 a1) ∧ (6 * a1) + (σ.2 519 0 a1) < 48) ∧ (-2147483648 ≤ a2 ∧ a2 < 2147483648) ∧ (-2147483648 ≤ a3 ∧ a3 < 2147483648) ∧ (-2147483648 ≤ a4 ∧ a4 < 2147483648) ∧ (-2147483648 ≤ a5 ∧ a5 < 2147483648) ∧ (-2147483648 ≤ a6 ∧ a6 < 2147483648) ∧ ((σ.2 519 0 a1 = 0 → (-2147483648 ≤ (σ.2 519 0 a1) + 1 ∧ (σ.2 519 0 a1) + 1 < 2147483648) ∧ Rt (some (.inl (((eh_sA (eh_sA (eh_sA (eh_sA (eh_sA (eh_sA (eh_sA σ 524 0 ((6 * a1) + (σ.2 519 0 a1)) a2) 525 0 ((6 * a1) + (σ.2 519 0 a1)) a3) 526 0 ((6 * a1) + (σ.2 519 0 a1)) a4) 527 0 ((6 * a1) + (σ.2 519 0 a1)) a5) 528 0 ((6 * a1) + (σ.2 519 0 a1)) a6) 520 0 a1 (σ.1 508 0)) 519 0 a1 ((σ.2 519 0 a1) + 1)).2 519 0 a1) - 1))) (eh_sA (eh_sA (eh_sA (eh_sA (eh_sA (eh_sA (eh_sA σ 524 0 ((6 * a1) + (σ.2 519 0 a1)) a2) 525 0 ((6 * a1) + (σ.2 519 0 a1)) a3) 526 0 ((6 * a1) + (σ.2 519 0 a1)) a4) 527 0 ((6 * a1) + (σ.2 519 0 a1)) a5) 528 0 ((6 * a1) + (σ.2 519 0 a1)) a6) 520 0 a1 (σ.1 508 0)) 519 0 a1 ((σ.2 519 0 a1) + 1))) ∧ (¬ σ.2 519 0 a1 = 0 → (-2147483648 ≤ (σ.2 519 0 a1) + 1 ∧ (σ.2 519 0 a1) + 1 < 2147483648) ∧ Rt (some (.inl (((eh_sA (eh_sA (eh_sA (eh_sA (eh_sA (eh_sA σ 524 0 ((6 * a1) + (σ.2 519 0 a1)) a2) 525 0 ((6 * a1) + (σ.2 519 0 a1)) a3) 526 0 ((6 * a1) + (σ.2 519 0 a1)) a4) 527 0 ((6 * a1) + (σ.2 519 0 a1)) a5) 528 0 ((6 * a1) + (σ.2 519 0 a1)) a6) 519 0 a1 ((σ.2 519 0 a1) + 1)).2 519 0 a1) - 1))) (eh_sA (eh_sA (eh_sA (eh_sA (eh_sA (eh_sA σ 524 0 ((6 * a1) + (σ.2 519 0 a1)) a2) 525 0 ((6 * a1) + (σ.2 519 0 a1)) a3) 526 0 ((6 * a1) + (σ.2 519 0 a1)) a4) 527 0 ((6 * a1) + (σ.2 519 0 a1)) a5) 528 0 ((6 * a1) + (σ.2 519 0 a1)) a6) 519 0 a1 ((σ.2 519 0 a1) + 1))))))) ∧ (¬ σ.2 521 0 a1 = 0 → Rt (some (.inl (-3))) σ))))) : X 48 [some (.inr (some (4, 0))), some (.inl a1), some (.inl a2), some (.inl a3), some (.inl a4), some (.inl a5), some (.inl a6), o7] [.inl s0] σ (0, 0) := by
  refine ru_ok hX (fun hok => ?_)
  replace h := h hok
  obtain ⟨k1, h⟩ := h
  refine ru_if_ne (tgt := 53) hX dX4_step_48 (by decide) k1 (fun q => ?_) (fun q => ?_)
  · have q2 := q
    replace h := h.2 q2
    refine ru_aload_n hX dX4_step_53 rfl (fun _ => ?_)
    refine ru_get (v := .inr (some (521, 0))) hX dX4_step_54 rfl ⟨by decide, by decide⟩ rfl (fun _ => ?_)
    refine ru_iload_n hX dX4_step_57 rfl (fun _ => ?_)
    obtain ⟨k3, h⟩ := h
    refine ru_zaload hX dX4_step_58 (by decide) ⟨by decide, by decide⟩ rfl k3 (fun _ => ?_)
    refine ru_if_eq (tgt := 65) hX dX4_step_59 (by decide) (hok.2 _ _ _ (by decide) (by decide) (by decide) (by decide)) (fun q => ?_) (fun q => ?_)
    · have q4 := q
      replace h := h.1 q4
      refine ru_aload_n hX dX4_step_65 rfl (fun _ => ?_)
      refine ru_get (v := .inr (some (519, 0))) hX dX4_step_66 rfl ⟨by decide, by decide⟩ rfl (fun _ => ?_)
      refine ru_iload_n hX dX4_step_69 rfl (fun _ => ?_)
      refine ru_iaload hX dX4_step_70 ⟨by decide, by decide⟩ rfl k3 (fun _ => ?_)
      refine ru_bipush hX dX4_step_71 (by decide) (fun _ => ?_)
      refine ru_icmp_ne (tgt := 79) hX dX4_step_73 (by decide) (hok.2 _ _ _ (by decide) (by decide) (by decide) (by decide)) (by unfold eh_r; decide) (fun q => ?_) (fun q => ?_)
      · have q5 := q
        replace h := h.2 q5
        refine ru_bipush hX dX4_step_79 (by decide) (fun _ => ?_)
        refine ru_iload_n hX dX4_step_81 rfl (fun _ => ?_)
        refine ru_imul hX dX4_step_82 (fun _ => ?_)
        refine ru_aload_n hX dX4_step_83 rfl (fun _ => ?_)
        refine ru_get (v := .inr (some (519, 0))) hX dX4_step_84 rfl ⟨by decide, by decide⟩ rfl (fun _ => ?_)
        refine ru_iload_n hX dX4_step_87 rfl (fun _ => ?_)
        refine ru_iaload hX dX4_step_88 ⟨by decide, by decide⟩ rfl k3 (fun _ => ?_)
        refine ru_iadd hX dX4_step_89 (fun _ => ?_)
        refine ru_istore (ls1 := [some (.inr (some (4, 0))), some (.inl a1), some (.inl a2), some (.inl a3), some (.inl a4), some (.inl a5), some (.inl a6), some (.inl ((6 * a1) + (σ.2 519 0 a1)))]) hX dX4_step_90 (Nat.le_of_ble_eq_true rfl) rfl (fun _ => ?_)
        refine ru_aload_n hX dX4_step_92 rfl (fun _ => ?_)
        refine ru_get (v := .inr (some (524, 0))) hX dX4_step_93 rfl ⟨by decide, by decide⟩ rfl (fun _ => ?_)
        refine ru_iload hX dX4_step_96 rfl (fun _ => ?_)
        refine ru_iload_n hX dX4_step_98 rfl (fun _ => ?_)
        obtain ⟨k6, h⟩ := h
        obtain ⟨k7, h⟩ := h
        refine ru_iastore hX dX4_step_99 ⟨by decide, by decide⟩ rfl k6 k7 (fun _ => ?_)
        refine ru_aload_n hX dX4_step_100 rfl (fun hok8 => ?_)
        refine ru_get (v := .inr (some (525, 0))) hX dX4_step_101 rfl ⟨by decide, by decide⟩ rfl (fun _ => ?_)
        refine ru_iload hX dX4_step_104 rfl (fun _ => ?_)
        refine ru_iload_n hX dX4_step_106 rfl (fun _ => ?_)
        obtain ⟨k9, h⟩ := h
        refine ru_iastore hX dX4_step_107 ⟨by decide, by decide⟩ rfl k6 k9 (fun _ => ?_)
        refine ru_aload_n hX dX4_step_108 rfl (fun hok10 => ?_)
        refine ru_get (v := .inr (some (526, 0))) hX dX4_step_109 rfl ⟨by decide, by decide⟩ rfl (fun _ => ?_)
        refine ru_iload hX dX4_step_112 rfl (fun _ => ?_)
        refine ru_iload hX dX4_step_114 rfl (fun _ => ?_)
        obtain ⟨k11, h⟩ := h
        refine ru_iastore hX dX4_step_116 ⟨by decide, by decide⟩ rfl k6 k11 (fun _ => ?_)
        refine ru_aload_n hX dX4_step_117 rfl (fun hok12 => ?_)
        refine ru_get (v := .inr (some (527, 0))) hX dX4_step_118 rfl ⟨by decide, by decide⟩ rfl (fun _ => ?_)
        refine ru_iload hX dX4_step_121 rfl (fun _ => ?_)
        refine ru_iload hX dX4_step_123 rfl (fun _ => ?_)
        obtain ⟨k13, h⟩ := h
        refine ru_iastore hX dX4_step_125 ⟨by decide, by decide⟩ rfl k6 k13 (fun _ => ?_)
        refine ru_aload_n hX dX4_step_126 rfl (fun hok14 => ?_)
        refine ru_get (v := .inr (some (528, 0))) hX dX4_step_127 rfl ⟨by decide, by decide⟩ rfl (fun _ => ?_)
        refine ru_iload hX dX4_step_130 rfl (fun _ => ?_)
        refine ru_iload hX dX4_step_132 rfl (fun _ => ?_)
        obtain ⟨k15, h⟩ := h
        refine ru_iastore hX dX4_step_134 ⟨by decide, by decide⟩ rfl k6 k15 (fun _ => ?_)
        refine ru_aload_n hX dX4_step_135 rfl (fun hok16 => ?_)
        refine ru_get (v := .inr (some (519, 0))) hX dX4_step_136 rfl ⟨by decide, by decide⟩ rfl (fun _ => ?_)
        refine ru_iload_n hX dX4_step_139 rfl (fun _ => ?_)
        refine ru_iaload hX dX4_step_140 ⟨by decide, by decide⟩ rfl k3 (fun _ => ?_)
        refine ru_if_ne (tgt := 154) hX dX4_step_141 (by decide) (hok.2 _ _ _ (by decide) (by decide) (by decide) (by decide)) (fun q => ?_) (fun q => ?_)
        · have q17 := q
          replace h := h.2 q17
          refine ru_aload_n hX dX4_step_154 rfl (fun _ => ?_)
          refine ru_get (v := .inr (some (519, 0))) hX dX4_step_155 rfl ⟨by decide, by decide⟩ rfl (fun _ => ?_)
          refine ru_iload_n hX dX4_step_158 rfl (fun _ => ?_)
          refine ru_dup2 hX dX4_step_159 (fun _ => ?_)
          refine ru_iaload hX dX4_step_160 ⟨by decide, by decide⟩ rfl k3 (fun _ => ?_)
          refine ru_iconst hX dX4_step_161 (fun _ => ?_)
          refine ru_iadd hX dX4_step_162 (fun _ => ?_)
          obtain ⟨k18, h⟩ := h
          refine ru_iastore hX dX4_step_163 ⟨by decide, by decide⟩ rfl k3 k18 (fun _ => ?_)
          refine ru_aload_n hX dX4_step_164 rfl (fun hok19 => ?_)
          refine ru_get (v := .inr (some (519, 0))) hX dX4_step_165 rfl ⟨by decide, by decide⟩ rfl (fun _ => ?_)
          refine ru_iload_n hX dX4_step_168 rfl (fun _ => ?_)
          refine ru_iaload hX dX4_step_169 ⟨by decide, by decide⟩ rfl k3 (fun _ => ?_)
          refine ru_iconst hX dX4_step_170 (fun _ => ?_)
          refine ru_isub hX dX4_step_171 (fun _ => ?_)
          exact ru_ireturn hX dX4_step_172 (Or.inl rfl) ⟨Nat.zero_le _, Nat.zero_le _⟩ (fun _ => h)
        · have q20 := q
          replace h := h.1 q20
          refine ru_aload_n hX dX4_step_144 rfl (fun _ => ?_)
          refine ru_get (v := .inr (some (520, 0))) hX dX4_step_145 rfl ⟨by decide, by decide⟩ rfl (fun _ => ?_)
          refine ru_iload_n hX dX4_step_148 rfl (fun _ => ?_)
          refine ru_aload_n hX dX4_step_149 rfl (fun _ => ?_)
          refine ru_get (v := .inl (σ.1 508 0)) hX dX4_step_150 rfl ⟨by decide, by decide⟩ rfl (fun _ => ?_)
          refine ru_iastore hX dX4_step_153 ⟨by decide, by decide⟩ rfl k3 (hok.1 _ _) (fun _ => ?_)
          refine ru_aload_n hX dX4_step_154 rfl (fun hok21 => ?_)
          refine ru_get (v := .inr (some (519, 0))) hX dX4_step_155 rfl ⟨by decide, by decide⟩ rfl (fun _ => ?_)
          refine ru_iload_n hX dX4_step_158 rfl (fun _ => ?_)
          refine ru_dup2 hX dX4_step_159 (fun _ => ?_)
          refine ru_iaload hX dX4_step_160 ⟨by decide, by decide⟩ rfl k3 (fun _ => ?_)
          refine ru_iconst hX dX4_step_161 (fun _ => ?_)
          refine ru_iadd hX dX4_step_162 (fun _ => ?_)
          obtain ⟨k22, h⟩ := h
          refine ru_iastore hX dX4_step_163 ⟨by decide, by decide⟩ rfl k3 k22 (fun _ => ?_)
          refine ru_aload_n hX dX4_step_164 rfl (fun hok23 => ?_)
          refine ru_get (v := .inr (some (519, 0))) hX dX4_step_165 rfl ⟨by decide, by decide⟩ rfl (fun _ => ?_)
          refine ru_iload_n hX dX4_step_168 rfl (fun _ => ?_)
          refine ru_iaload hX dX4_step_169 ⟨by decide, by decide⟩ rfl k3 (fun _ => ?_)
          refine ru_iconst hX dX4_step_170 (fun _ => ?_)
          refine ru_isub hX dX4_step_171 (fun _ => ?_)
          exact ru_ireturn hX dX4_step_172 (Or.inl rfl) ⟨Nat.zero_le _, Nat.zero_le _⟩ (fun _ => h)
      · have q24 := q
        replace h := h.1 q24
        refine ru_bipush hX dX4_step_76 (by decide) (fun _ => ?_)
        exact ru_ireturn hX dX4_step_78 (Or.inl rfl) ⟨Nat.zero_le _, Nat.zero_le _⟩ (fun _ => h)
    · have q25 := q
      replace h := h.2 q25
      refine ru_bipush hX dX4_step_62 (by decide) (fun _ => ?_)
      exact ru_ireturn hX dX4_step_64 (Or.inl rfl) ⟨Nat.zero_le _, Nat.zero_le _⟩ (fun _ => h)
  · have q26 := q
    replace h := h.1 q26
    refine ru_iconst hX dX4_step_51 (fun _ => ?_)
    exact ru_ireturn hX dX4_step_52 (Or.inl rfl) ⟨Nat.zero_le _, Nat.zero_le _⟩ (fun _ => h)
theorem bX4_isPattern_0 {cs ss : Nat → Option (Nat × eh_T)} {lim : Nat × Nat} {Rt : Option eh_V → eh_S → Prop} {X : eh_X} (hX : eh_Ru eh_nX eh_fl4 eh_kn4 cs ss lim Rt 1 cX4_isPattern X)  {σ : eh_S}  {a1 : Int}  (h : eh_ok σ → (-2147483648 ≤ a1 ∧ a1 < 2147483648) ∧ ((a1 < 0 → Rt (some (.inl 0)) σ) ∧ (¬ a1 < 0 → ((σ.1 515 0 ≤ a1 → Rt (some (.inl 0)) σ) ∧ (¬ σ.1 515 0 ≤ a1 → Rt (some (.inl 1)) σ))))) : X 0 [some (.inr (some (4, 0))), some (.inl a1)] [] σ (0, 0) := by
  refine ru_ok hX (fun hok => ?_)
  replace h := h hok
  refine ru_iload_n hX dX4_isPattern_0 rfl (fun _ => ?_)
  obtain ⟨k1, h⟩ := h
  refine ru_if_lt (tgt := 16) hX dX4_isPattern_1 (by decide) k1 (fun q => ?_) (fun q => ?_)
  · have q2 := q
    replace h := h.1 q2
    refine ru_iconst hX dX4_isPattern_16 (fun _ => ?_)
    exact ru_ireturn hX dX4_isPattern_17 (Or.inr ⟨rfl, by decide⟩) ⟨Nat.zero_le _, Nat.zero_le _⟩ (fun _ => h)
  · have q3 := q
    replace h := h.2 q3
    refine ru_iload_n hX dX4_isPattern_4 rfl (fun _ => ?_)
    refine ru_aload_n hX dX4_isPattern_5 rfl (fun _ => ?_)
    refine ru_get (v := .inl (σ.1 515 0)) hX dX4_isPattern_6 rfl ⟨by decide, by decide⟩ rfl (fun _ => ?_)
    refine ru_icmp_ge (tgt := 16) hX dX4_isPattern_9 (by decide) k1 (hok.1 _ _) (fun q => ?_) (fun q => ?_)
    · have q4 := q
      replace h := h.1 q4
      refine ru_iconst hX dX4_isPattern_16 (fun _ => ?_)
      exact ru_ireturn hX dX4_isPattern_17 (Or.inr ⟨rfl, by decide⟩) ⟨Nat.zero_le _, Nat.zero_le _⟩ (fun _ => h)
    · have q5 := q
      replace h := h.2 q5
      refine ru_iconst hX dX4_isPattern_12 (fun _ => ?_)
      refine ru_goto (tgt := 17) hX dX4_isPattern_13 (by decide) ?_
      exact ru_ireturn hX dX4_isPattern_17 (Or.inr ⟨rfl, by decide⟩) ⟨Nat.zero_le _, Nat.zero_le _⟩ (fun _ => h)
theorem bX4_isTest_0 {cs ss : Nat → Option (Nat × eh_T)} {lim : Nat × Nat} {Rt : Option eh_V → eh_S → Prop} {X : eh_X} (hX : eh_Ru eh_nX eh_fl4 eh_kn4 cs ss lim Rt 1 cX4_isTest X)  {σ : eh_S}  {a0 : Int} {a1 : Int} {a2 : Int} {a3 : Int}  (h : eh_ok σ → (-2147483648 ≤ a0 ∧ a0 < 2147483648) ∧ ((a0 = 0 → Rt (some (.inl 1)) σ) ∧ (¬ a0 = 0 → ((a0 < 0 → Rt (some (.inl 0)) σ) ∧ (¬ a0 < 0 → ((6 < a0 → Rt (some (.inl 0)) σ) ∧ (¬ 6 < a0 → (-2147483648 ≤ a1 ∧ a1 < 2147483648) ∧ ((a1 < 0 → Rt (some (.inl 0)) σ) ∧ (¬ a1 < 0 → ((a1 ≤ 3 → ((4 ≤ a0 → (-2147483648 ≤ a2 ∧ a2 < 2147483648) ∧ ((a2 < 0 → Rt (some (.inl 0)) σ) ∧ (¬ a2 < 0 → (-2147483648 ≤ a3 ∧ a3 < 2147483648) ∧ ((a3 ≤ a2 → Rt (some (.inl 0)) σ) ∧ (¬ a3 ≤ a2 → Rt (some (.inl 1)) σ))))) ∧ (¬ 4 ≤ a0 → (-2147483648 ≤ a2 ∧ a2 < 2147483648) ∧ ((a2 < (-1000) → Rt (some (.inl 0)) σ) ∧ (¬ a2 < (-1000) → ((1000 < a2 → Rt (some (.inl 0)) σ) ∧ (¬ 1000 < a2 → Rt (some (.inl 1)) σ))))))) ∧ (¬ a1 ≤ 3 → Rt (some (.inl 0)) σ))))))))))) : X 0 [some (.inl a0), some (.inl a1), some (.inl a2), some (.inl a3)] [] σ (0, 0) := by
  refine ru_ok hX (fun hok => ?_)
  replace h := h hok
  refine ru_iload_n hX dX4_isTest_0 rfl (fun _ => ?_)
  obtain ⟨k1, h⟩ := h
  refine ru_if_ne (tgt := 6) hX dX4_isTest_1 (by decide) k1 (fun q => ?_) (fun q => ?_)
  · have q2 := q
    replace h := h.2 q2
    refine ru_iload_n hX dX4_isTest_6 rfl (fun _ => ?_)
    refine ru_if_lt (tgt := 25) hX dX4_isTest_7 (by decide) k1 (fun q => ?_) (fun q => ?_)
    · have q3 := q
      replace h := h.1 q3
      refine ru_iconst hX dX4_isTest_25 (fun _ => ?_)
      exact ru_ireturn hX dX4_isTest_26 (Or.inr ⟨rfl, by decide⟩) ⟨Nat.zero_le _, Nat.zero_le _⟩ (fun _ => h)
    · have q4 := q
      replace h := h.2 q4
      refine ru_iload_n hX dX4_isTest_10 rfl (fun _ => ?_)
      refine ru_bipush hX dX4_isTest_11 (by decide) (fun _ => ?_)
      refine ru_icmp_gt (tgt := 25) hX dX4_isTest_13 (by decide) k1 (by unfold eh_r; decide) (fun q => ?_) (fun q => ?_)
      · have q5 := q
        replace h := h.1 q5
        refine ru_iconst hX dX4_isTest_25 (fun _ => ?_)
        exact ru_ireturn hX dX4_isTest_26 (Or.inr ⟨rfl, by decide⟩) ⟨Nat.zero_le _, Nat.zero_le _⟩ (fun _ => h)
      · have q6 := q
        replace h := h.2 q6
        refine ru_iload_n hX dX4_isTest_16 rfl (fun _ => ?_)
        obtain ⟨k7, h⟩ := h
        refine ru_if_lt (tgt := 25) hX dX4_isTest_17 (by decide) k7 (fun q => ?_) (fun q => ?_)
        · have q8 := q
          replace h := h.1 q8
          refine ru_iconst hX dX4_isTest_25 (fun _ => ?_)
          exact ru_ireturn hX dX4_isTest_26 (Or.inr ⟨rfl, by decide⟩) ⟨Nat.zero_le _, Nat.zero_le _⟩ (fun _ => h)
        · have q9 := q
          replace h := h.2 q9
          refine ru_iload_n hX dX4_isTest_20 rfl (fun _ => ?_)
          refine ru_iconst hX dX4_isTest_21 (fun _ => ?_)
          refine ru_icmp_le (tgt := 27) hX dX4_isTest_22 (by decide) k7 (by unfold eh_r; decide) (fun q => ?_) (fun q => ?_)
          · have q10 := q
            replace h := h.1 q10
            refine ru_iload_n hX dX4_isTest_27 rfl (fun _ => ?_)
            refine ru_iconst hX dX4_isTest_28 (fun _ => ?_)
            refine ru_icmp_ge (tgt := 54) hX dX4_isTest_29 (by decide) k1 (by unfold eh_r; decide) (fun q => ?_) (fun q => ?_)
            · have q11 := q
              replace h := h.1 q11
              refine ru_iload_n hX dX4_isTest_54 rfl (fun _ => ?_)
              obtain ⟨k12, h⟩ := h
              refine ru_if_lt (tgt := 67) hX dX4_isTest_55 (by decide) k12 (fun q => ?_) (fun q => ?_)
              · have q13 := q
                replace h := h.1 q13
                refine ru_iconst hX dX4_isTest_67 (fun _ => ?_)
                exact ru_ireturn hX dX4_isTest_68 (Or.inr ⟨rfl, by decide⟩) ⟨Nat.zero_le _, Nat.zero_le _⟩ (fun _ => h)
              · have q14 := q
                replace h := h.2 q14
                refine ru_iload_n hX dX4_isTest_58 rfl (fun _ => ?_)
                refine ru_iload_n hX dX4_isTest_59 rfl (fun _ => ?_)
                obtain ⟨k15, h⟩ := h
                refine ru_icmp_ge (tgt := 67) hX dX4_isTest_60 (by decide) k12 k15 (fun q => ?_) (fun q => ?_)
                · have q16 := q
                  replace h := h.1 q16
                  refine ru_iconst hX dX4_isTest_67 (fun _ => ?_)
                  exact ru_ireturn hX dX4_isTest_68 (Or.inr ⟨rfl, by decide⟩) ⟨Nat.zero_le _, Nat.zero_le _⟩ (fun _ => h)
                · have q17 := q
                  replace h := h.2 q17
                  refine ru_iconst hX dX4_isTest_63 (fun _ => ?_)
                  refine ru_goto (tgt := 68) hX dX4_isTest_64 (by decide) ?_
                  exact ru_ireturn hX dX4_isTest_68 (Or.inr ⟨rfl, by decide⟩) ⟨Nat.zero_le _, Nat.zero_le _⟩ (fun _ => h)
            · have q18 := q
              replace h := h.2 q18
              refine ru_iload_n hX dX4_isTest_32 rfl (fun _ => ?_)
              refine ru_sipush hX dX4_isTest_33 (by decide) (fun _ => ?_)
              obtain ⟨k19, h⟩ := h
              refine ru_icmp_lt (tgt := 50) hX dX4_isTest_36 (by decide) k19 (by unfold eh_r; decide) (fun q => ?_) (fun q => ?_)
              · have q20 := q
                replace h := h.1 q20
                refine ru_iconst hX dX4_isTest_50 (fun _ => ?_)
                refine ru_goto (tgt := 68) hX dX4_isTest_51 (by decide) ?_
                exact ru_ireturn hX dX4_isTest_68 (Or.inr ⟨rfl, by decide⟩) ⟨Nat.zero_le _, Nat.zero_le _⟩ (fun _ => h)
              · have q21 := q
                replace h := h.2 q21
                refine ru_iload_n hX dX4_isTest_39 rfl (fun _ => ?_)
                refine ru_sipush hX dX4_isTest_40 (by decide) (fun _ => ?_)
                refine ru_icmp_gt (tgt := 50) hX dX4_isTest_43 (by decide) k19 (by unfold eh_r; decide) (fun q => ?_) (fun q => ?_)
                · have q22 := q
                  replace h := h.1 q22
                  refine ru_iconst hX dX4_isTest_50 (fun _ => ?_)
                  refine ru_goto (tgt := 68) hX dX4_isTest_51 (by decide) ?_
                  exact ru_ireturn hX dX4_isTest_68 (Or.inr ⟨rfl, by decide⟩) ⟨Nat.zero_le _, Nat.zero_le _⟩ (fun _ => h)
                · have q23 := q
                  replace h := h.2 q23
                  refine ru_iconst hX dX4_isTest_46 (fun _ => ?_)
                  refine ru_goto (tgt := 68) hX dX4_isTest_47 (by decide) ?_
                  exact ru_ireturn hX dX4_isTest_68 (Or.inr ⟨rfl, by decide⟩) ⟨Nat.zero_le _, Nat.zero_le _⟩ (fun _ => h)
          · have q24 := q
            replace h := h.2 q24
            refine ru_iconst hX dX4_isTest_25 (fun _ => ?_)
            exact ru_ireturn hX dX4_isTest_26 (Or.inr ⟨rfl, by decide⟩) ⟨Nat.zero_le _, Nat.zero_le _⟩ (fun _ => h)
  · have q25 := q
    replace h := h.1 q25
    refine ru_iconst hX dX4_isTest_4 (fun _ => ?_)
    exact ru_ireturn hX dX4_isTest_5 (Or.inr ⟨rfl, by decide⟩) ⟨Nat.zero_le _, Nat.zero_le _⟩ (fun _ => h)
theorem bX4_mayStand_0 {cs ss : Nat → Option (Nat × eh_T)} {lim : Nat × Nat} {Rt : Option eh_V → eh_S → Prop} {X : eh_X} (hX : eh_Ru eh_nX eh_fl4 eh_kn4 cs ss lim Rt 1 cX4_mayStand X) {T140 : eh_T} (hc140 : ss 140 = some (1, T140)) {σ : eh_S}  {a1 : Int} {a2 : Int} {o3 : Option eh_V}  (h : eh_ok σ → (0 ≤ a1 ∧ a1 < 8) ∧ ((σ.2 519 0 a1 = 0 → T140 [.inl a2] σ (0, 0) (fun r σ1 => X 13 [some (.inr (some (4, 0))), some (.inl a1), some (.inl a2), o3] (r.toList ++ []) σ1 (0, 0))) ∧ (¬ σ.2 519 0 a1 = 0 → (0 ≤ ((6 * a1) + (σ.2 519 0 a1)) - 1 ∧ ((6 * a1) + (σ.2 519 0 a1)) - 1 < 48) ∧ (-2147483648 ≤ a2 ∧ a2 < 2147483648) ∧ ((a2 = 3 → T140 [.inl (σ.2 524 0 (((6 * a1) + (σ.2 519 0 a1)) - 1))] σ (0, 0) (fun r σ1 => X 42 [some (.inr (some (4, 0))), some (.inl a1), some (.inl a2), some (.inl (σ.2 524 0 (((6 * a1) + (σ.2 519 0 a1)) - 1)))] (r.toList ++ []) σ1 (0, 0))) ∧ (¬ a2 = 3 → ((σ.2 524 0 (((6 * a1) + (σ.2 519 0 a1)) - 1) = 3 → T140 [.inl a2] σ (0, 0) (fun r σ1 => X 54 [some (.inr (some (4, 0))), some (.inl a1), some (.inl a2), some (.inl (σ.2 524 0 (((6 * a1) + (σ.2 519 0 a1)) - 1)))] (r.toList ++ []) σ1 (0, 0))) ∧ (¬ σ.2 524 0 (((6 * a1) + (σ.2 519 0 a1)) - 1) = 3 → Rt (some (.inl 1)) σ))))))) : X 0 [some (.inr (some (4, 0))), some (.inl a1), some (.inl a2), o3] [] σ (0, 0) := by
  refine ru_ok hX (fun hok => ?_)
  replace h := h hok
  refine ru_aload_n hX dX4_mayStand_0 rfl (fun _ => ?_)
  refine ru_get (v := .inr (some (519, 0))) hX dX4_mayStand_1 rfl ⟨by decide, by decide⟩ rfl (fun _ => ?_)
  refine ru_iload_n hX dX4_mayStand_4 rfl (fun _ => ?_)
  obtain ⟨k1, h⟩ := h
  refine ru_iaload hX dX4_mayStand_5 ⟨by decide, by decide⟩ rfl k1 (fun _ => ?_)
  refine ru_if_ne (tgt := 14) hX dX4_mayStand_6 (by decide) (hok.2 _ _ _ (by decide) (by decide) (by decide) (by decide)) (fun q => ?_) (fun q => ?_)
  · have q2 := q
    replace h := h.2 q2
    refine ru_aload_n hX dX4_mayStand_14 rfl (fun _ => ?_)
    refine ru_get (v := .inr (some (524, 0))) hX dX4_mayStand_15 rfl ⟨by decide, by decide⟩ rfl (fun _ => ?_)
    refine ru_bipush hX dX4_mayStand_18 (by decide) (fun _ => ?_)
    refine ru_iload_n hX dX4_mayStand_20 rfl (fun _ => ?_)
    refine ru_imul hX dX4_mayStand_21 (fun _ => ?_)
    refine ru_aload_n hX dX4_mayStand_22 rfl (fun _ => ?_)
    refine ru_get (v := .inr (some (519, 0))) hX dX4_mayStand_23 rfl ⟨by decide, by decide⟩ rfl (fun _ => ?_)
    refine ru_iload_n hX dX4_mayStand_26 rfl (fun _ => ?_)
    refine ru_iaload hX dX4_mayStand_27 ⟨by decide, by decide⟩ rfl k1 (fun _ => ?_)
    refine ru_iadd hX dX4_mayStand_28 (fun _ => ?_)
    refine ru_iconst hX dX4_mayStand_29 (fun _ => ?_)
    refine ru_isub hX dX4_mayStand_30 (fun _ => ?_)
    obtain ⟨k3, h⟩ := h
    refine ru_iaload hX dX4_mayStand_31 ⟨by decide, by decide⟩ rfl k3 (fun _ => ?_)
    refine ru_istore_n (ls1 := [some (.inr (some (4, 0))), some (.inl a1), some (.inl a2), some (.inl (σ.2 524 0 (((6 * a1) + (σ.2 519 0 a1)) - 1)))]) hX dX4_mayStand_32 (Nat.le_of_ble_eq_true rfl) rfl (fun _ => ?_)
    refine ru_iload_n hX dX4_mayStand_33 rfl (fun _ => ?_)
    refine ru_iconst hX dX4_mayStand_34 (fun _ => ?_)
    obtain ⟨k4, h⟩ := h
    refine ru_icmp_ne (tgt := 45) hX dX4_mayStand_35 (by decide) k4 (by unfold eh_r; decide) (fun q => ?_) (fun q => ?_)
    · have q5 := q
      replace h := h.2 q5
      refine ru_iload_n hX dX4_mayStand_45 rfl (fun _ => ?_)
      refine ru_iconst hX dX4_mayStand_46 (fun _ => ?_)
      refine ru_icmp_ne (tgt := 57) hX dX4_mayStand_47 (by decide) (hok.2 _ _ _ (by decide) (by decide) (by decide) (by decide)) (by unfold eh_r; decide) (fun q => ?_) (fun q => ?_)
      · have q6 := q
        replace h := h.2 q6
        refine ru_iconst hX dX4_mayStand_57 (fun _ => ?_)
        refine ru_goto (tgt := 62) hX dX4_mayStand_58 (by decide) ?_
        exact ru_ireturn hX dX4_mayStand_62 (Or.inr ⟨rfl, by decide⟩) ⟨Nat.zero_le _, Nat.zero_le _⟩ (fun _ => h)
      · have q7 := q
        replace h := h.1 q7
        refine ru_iload_n hX dX4_mayStand_50 rfl (fun _ => ?_)
        exact ru_callS (as := [.inl a2]) (rest := []) hX dX4_mayStand_51 hc140 rfl (Nat.le_of_ble_eq_true rfl) (0, 0) ⟨Nat.zero_le _, Nat.zero_le _⟩ h
    · have q8 := q
      replace h := h.1 q8
      refine ru_iload_n hX dX4_mayStand_38 rfl (fun _ => ?_)
      exact ru_callS (as := [.inl (σ.2 524 0 (((6 * a1) + (σ.2 519 0 a1)) - 1))]) (rest := []) hX dX4_mayStand_39 hc140 rfl (Nat.le_of_ble_eq_true rfl) (0, 0) ⟨Nat.zero_le _, Nat.zero_le _⟩ h
  · have q9 := q
    replace h := h.1 q9
    refine ru_iload_n hX dX4_mayStand_9 rfl (fun _ => ?_)
    exact ru_callS (as := [.inl a2]) (rest := []) hX dX4_mayStand_10 hc140 rfl (Nat.le_of_ble_eq_true rfl) (0, 0) ⟨Nat.zero_le _, Nat.zero_le _⟩ h
theorem bX4_mayStand_13 {cs ss : Nat → Option (Nat × eh_T)} {lim : Nat × Nat} {Rt : Option eh_V → eh_S → Prop} {X : eh_X} (hX : eh_Ru eh_nX eh_fl4 eh_kn4 cs ss lim Rt 1 cX4_mayStand X)  {σ : eh_S}  {o0 : Option eh_V} {o1 : Option eh_V} {o2 : Option eh_V} {o3 : Option eh_V} {s0 : Int}  (h : eh_ok σ → (s0 = 0 ∨ s0 = 1) ∧ Rt (some (.inl s0)) σ) : X 13 [o0, o1, o2, o3] [.inl s0] σ (0, 0) := by
  refine ru_ok hX (fun hok => ?_)
  replace h := h hok
  obtain ⟨k1, h⟩ := h
  exact ru_ireturn hX dX4_mayStand_13 (Or.inr ⟨rfl, k1⟩) ⟨Nat.zero_le _, Nat.zero_le _⟩ (fun _ => h)
theorem bX4_mayStand_42 {cs ss : Nat → Option (Nat × eh_T)} {lim : Nat × Nat} {Rt : Option eh_V → eh_S → Prop} {X : eh_X} (hX : eh_Ru eh_nX eh_fl4 eh_kn4 cs ss lim Rt 1 cX4_mayStand X)  {σ : eh_S}  {o0 : Option eh_V} {o1 : Option eh_V} {o2 : Option eh_V} {o3 : Option eh_V} {s0 : Int}  (h : eh_ok σ → (s0 = 0 ∨ s0 = 1) ∧ Rt (some (.inl s0)) σ) : X 42 [o0, o1, o2, o3] [.inl s0] σ (0, 0) := by
  refine ru_ok hX (fun hok => ?_)
  replace h := h hok
  refine ru_goto (tgt := 62) hX dX4_mayStand_42 (by decide) ?_
  obtain ⟨k1, h⟩ := h
  exact ru_ireturn hX dX4_mayStand_62 (Or.inr ⟨rfl, k1⟩) ⟨Nat.zero_le _, Nat.zero_le _⟩ (fun _ => h)
theorem bX4_mayStand_54 {cs ss : Nat → Option (Nat × eh_T)} {lim : Nat × Nat} {Rt : Option eh_V → eh_S → Prop} {X : eh_X} (hX : eh_Ru eh_nX eh_fl4 eh_kn4 cs ss lim Rt 1 cX4_mayStand X)  {σ : eh_S}  {o0 : Option eh_V} {o1 : Option eh_V} {o2 : Option eh_V} {o3 : Option eh_V} {s0 : Int}  (h : eh_ok σ → (-2147483648 ≤ s0 ∧ s0 < 2147483648) ∧ ((s0 = 0 → Rt (some (.inl 0)) σ) ∧ (¬ s0 = 0 → Rt (some (.inl 1)) σ))) : X 54 [o0, o1, o2, o3] [.inl s0] σ (0, 0) := by
  refine ru_ok hX (fun hok => ?_)
  replace h := h hok
  obtain ⟨k1, h⟩ := h
  refine ru_if_eq (tgt := 61) hX dX4_mayStand_54 (by decide) k1 (fun q => ?_) (fun q => ?_)
  · have q2 := q
    replace h := h.1 q2
    refine ru_iconst hX dX4_mayStand_61 (fun _ => ?_)
    exact ru_ireturn hX dX4_mayStand_62 (Or.inr ⟨rfl, by decide⟩) ⟨Nat.zero_le _, Nat.zero_le _⟩ (fun _ => h)
  · have q3 := q
    replace h := h.2 q3
    refine ru_iconst hX dX4_mayStand_57 (fun _ => ?_)
    refine ru_goto (tgt := 62) hX dX4_mayStand_58 (by decide) ?_
    exact ru_ireturn hX dX4_mayStand_62 (Or.inr ⟨rfl, by decide⟩) ⟨Nat.zero_le _, Nat.zero_le _⟩ (fun _ => h)
theorem bX4_isSure_0 {cs ss : Nat → Option (Nat × eh_T)} {lim : Nat × Nat} {Rt : Option eh_V → eh_S → Prop} {X : eh_X} (hX : eh_Ru eh_nX eh_fl4 eh_kn4 cs ss lim Rt 1 cX4_isSure X)  {σ : eh_S}  {a0 : Int}  (h : eh_ok σ → (-2147483648 ≤ a0 ∧ a0 < 2147483648) ∧ ((a0 = 0 → Rt (some (.inl 1)) σ) ∧ (¬ a0 = 0 → ((a0 = 1 → Rt (some (.inl 1)) σ) ∧ (¬ a0 = 1 → Rt (some (.inl 0)) σ))))) : X 0 [some (.inl a0)] [] σ (0, 0) := by
  refine ru_ok hX (fun hok => ?_)
  replace h := h hok
  refine ru_iload_n hX dX4_isSure_0 rfl (fun _ => ?_)
  obtain ⟨k1, h⟩ := h
  refine ru_if_eq (tgt := 9) hX dX4_isSure_1 (by decide) k1 (fun q => ?_) (fun q => ?_)
  · have q2 := q
    replace h := h.1 q2
    refine ru_iconst hX dX4_isSure_9 (fun _ => ?_)
    refine ru_goto (tgt := 14) hX dX4_isSure_10 (by decide) ?_
    exact ru_ireturn hX dX4_isSure_14 (Or.inr ⟨rfl, by decide⟩) ⟨Nat.zero_le _, Nat.zero_le _⟩ (fun _ => h)
  · have q3 := q
    replace h := h.2 q3
    refine ru_iload_n hX dX4_isSure_4 rfl (fun _ => ?_)
    refine ru_iconst hX dX4_isSure_5 (fun _ => ?_)
    refine ru_icmp_ne (tgt := 13) hX dX4_isSure_6 (by decide) k1 (by unfold eh_r; decide) (fun q => ?_) (fun q => ?_)
    · have q4 := q
      replace h := h.2 q4
      refine ru_iconst hX dX4_isSure_13 (fun _ => ?_)
      exact ru_ireturn hX dX4_isSure_14 (Or.inr ⟨rfl, by decide⟩) ⟨Nat.zero_le _, Nat.zero_le _⟩ (fun _ => h)
    · have q5 := q
      replace h := h.1 q5
      refine ru_iconst hX dX4_isSure_9 (fun _ => ?_)
      refine ru_goto (tgt := 14) hX dX4_isSure_10 (by decide) ?_
      exact ru_ireturn hX dX4_isSure_14 (Or.inr ⟨rfl, by decide⟩) ⟨Nat.zero_le _, Nat.zero_le _⟩ (fun _ => h)
theorem bX4_fields_0 {cs ss : Nat → Option (Nat × eh_T)} {lim : Nat × Nat} {Rt : Option eh_V → eh_S → Prop} {X : eh_X} (hX : eh_Ru eh_nX eh_fl4 eh_kn4 cs ss lim Rt 0 cX4_fields X)  {σ : eh_S}  {a1 : Int} {a2 : Int} {a3 : Int} {a4 : Int} {o5 : Option eh_V}  (h : eh_ok σ → (-2147483648 ≤ a1 ∧ a1 < 2147483648) ∧ ((a1 < (-1000) → Rt (some (.inl (-1))) σ) ∧ (¬ a1 < (-1000) → ((1000 < a1 → Rt (some (.inl (-1))) σ) ∧ (¬ 1000 < a1 → (-2147483648 ≤ a2 ∧ a2 < 2147483648) ∧ ((a2 < (-1000) → Rt (some (.inl (-1))) σ) ∧ (¬ a2 < (-1000) → ((1000 < a2 → Rt (some (.inl (-1))) σ) ∧ (¬ 1000 < a2 → (-2147483648 ≤ a3 ∧ a3 < 2147483648) ∧ ((a3 < (-1000) → Rt (some (.inl (-1))) σ) ∧ (¬ a3 < (-1000) → ((1000 < a3 → Rt (some (.inl (-1))) σ) ∧ (¬ 1000 < a3 → (-2147483648 ≤ a4 ∧ a4 < 2147483648) ∧ ((a4 < (-1000) → Rt (some (.inl (-1))) σ) ∧ (¬ a4 < (-1000) → ((1000 < a4 → Rt (some (.inl (-1))) σ) ∧ (¬ 1000 < a4 → Rt (some (.inl 1)) (eh_sA (eh_sA (eh_sA (eh_sA σ 502 0 0 a1) 502 0 1 a2) 502 0 2 a3) 502 0 3 a4)))))))))))))))))) : X 0 [some (.inr (some (4, 0))), some (.inl a1), some (.inl a2), some (.inl a3), some (.inl a4), o5] [] σ (0, 0) := by
  refine ru_ok hX (fun hok => ?_)
  replace h := h hok
  refine ru_iload_n hX dX4_fields_0 rfl (fun _ => ?_)
  refine ru_sipush hX dX4_fields_1 (by decide) (fun _ => ?_)
  obtain ⟨k1, h⟩ := h
  refine ru_icmp_lt (tgt := 62) hX dX4_fields_4 (by decide) k1 (by unfold eh_r; decide) (fun q => ?_) (fun q => ?_)
  · have q2 := q
    replace h := h.1 q2
    refine ru_iconst hX dX4_fields_62 (fun _ => ?_)
    refine ru_istore (ls1 := [some (.inr (some (4, 0))), some (.inl a1), some (.inl a2), some (.inl a3), some (.inl a4), some (.inl 0)]) hX dX4_fields_63 (Nat.le_of_ble_eq_true rfl) rfl (fun _ => ?_)
    refine ru_iload hX dX4_fields_65 rfl (fun _ => ?_)
    refine ru_if_ne (tgt := 72) hX dX4_fields_67 (by decide) (by unfold eh_r; decide) (fun q => ?_) (fun q => ?_)
    · exact absurd q (by decide)
    clear q
    refine ru_iconst hX dX4_fields_70 (fun _ => ?_)
    exact ru_ireturn hX dX4_fields_71 (Or.inl rfl) ⟨Nat.zero_le _, Nat.zero_le _⟩ (fun _ => h)
  · have q3 := q
    replace h := h.2 q3
    refine ru_iload_n hX dX4_fields_7 rfl (fun _ => ?_)
    refine ru_sipush hX dX4_fields_8 (by decide) (fun _ => ?_)
    refine ru_icmp_gt (tgt := 62) hX dX4_fields_11 (by decide) k1 (by unfold eh_r; decide) (fun q => ?_) (fun q => ?_)
    · have q4 := q
      replace h := h.1 q4
      refine ru_iconst hX dX4_fields_62 (fun _ => ?_)
      refine ru_istore (ls1 := [some (.inr (some (4, 0))), some (.inl a1), some (.inl a2), some (.inl a3), some (.inl a4), some (.inl 0)]) hX dX4_fields_63 (Nat.le_of_ble_eq_true rfl) rfl (fun _ => ?_)
      refine ru_iload hX dX4_fields_65 rfl (fun _ => ?_)
      refine ru_if_ne (tgt := 72) hX dX4_fields_67 (by decide) (by unfold eh_r; decide) (fun q => ?_) (fun q => ?_)
      · exact absurd q (by decide)
      clear q
      refine ru_iconst hX dX4_fields_70 (fun _ => ?_)
      exact ru_ireturn hX dX4_fields_71 (Or.inl rfl) ⟨Nat.zero_le _, Nat.zero_le _⟩ (fun _ => h)
    · have q5 := q
      replace h := h.2 q5
      refine ru_iload_n hX dX4_fields_14 rfl (fun _ => ?_)
      refine ru_sipush hX dX4_fields_15 (by decide) (fun _ => ?_)
      obtain ⟨k6, h⟩ := h
      refine ru_icmp_lt (tgt := 62) hX dX4_fields_18 (by decide) k6 (by unfold eh_r; decide) (fun q => ?_) (fun q => ?_)
      · have q7 := q
        replace h := h.1 q7
        refine ru_iconst hX dX4_fields_62 (fun _ => ?_)
        refine ru_istore (ls1 := [some (.inr (some (4, 0))), some (.inl a1), some (.inl a2), some (.inl a3), some (.inl a4), some (.inl 0)]) hX dX4_fields_63 (Nat.le_of_ble_eq_true rfl) rfl (fun _ => ?_)
        refine ru_iload hX dX4_fields_65 rfl (fun _ => ?_)
        refine ru_if_ne (tgt := 72) hX dX4_fields_67 (by decide) (by unfold eh_r; decide) (fun q => ?_) (fun q => ?_)
        · exact absurd q (by decide)
        clear q
        refine ru_iconst hX dX4_fields_70 (fun _ => ?_)
        exact ru_ireturn hX dX4_fields_71 (Or.inl rfl) ⟨Nat.zero_le _, Nat.zero_le _⟩ (fun _ => h)
      · have q8 := q
        replace h := h.2 q8
        refine ru_iload_n hX dX4_fields_21 rfl (fun _ => ?_)
        refine ru_sipush hX dX4_fields_22 (by decide) (fun _ => ?_)
        refine ru_icmp_gt (tgt := 62) hX dX4_fields_25 (by decide) k6 (by unfold eh_r; decide) (fun q => ?_) (fun q => ?_)
        · have q9 := q
          replace h := h.1 q9
          refine ru_iconst hX dX4_fields_62 (fun _ => ?_)
          refine ru_istore (ls1 := [some (.inr (some (4, 0))), some (.inl a1), some (.inl a2), some (.inl a3), some (.inl a4), some (.inl 0)]) hX dX4_fields_63 (Nat.le_of_ble_eq_true rfl) rfl (fun _ => ?_)
          refine ru_iload hX dX4_fields_65 rfl (fun _ => ?_)
          refine ru_if_ne (tgt := 72) hX dX4_fields_67 (by decide) (by unfold eh_r; decide) (fun q => ?_) (fun q => ?_)
          · exact absurd q (by decide)
          clear q
          refine ru_iconst hX dX4_fields_70 (fun _ => ?_)
          exact ru_ireturn hX dX4_fields_71 (Or.inl rfl) ⟨Nat.zero_le _, Nat.zero_le _⟩ (fun _ => h)
        · have q10 := q
          replace h := h.2 q10
          refine ru_iload_n hX dX4_fields_28 rfl (fun _ => ?_)
          refine ru_sipush hX dX4_fields_29 (by decide) (fun _ => ?_)
          obtain ⟨k11, h⟩ := h
          refine ru_icmp_lt (tgt := 62) hX dX4_fields_32 (by decide) k11 (by unfold eh_r; decide) (fun q => ?_) (fun q => ?_)
          · have q12 := q
            replace h := h.1 q12
            refine ru_iconst hX dX4_fields_62 (fun _ => ?_)
            refine ru_istore (ls1 := [some (.inr (some (4, 0))), some (.inl a1), some (.inl a2), some (.inl a3), some (.inl a4), some (.inl 0)]) hX dX4_fields_63 (Nat.le_of_ble_eq_true rfl) rfl (fun _ => ?_)
            refine ru_iload hX dX4_fields_65 rfl (fun _ => ?_)
            refine ru_if_ne (tgt := 72) hX dX4_fields_67 (by decide) (by unfold eh_r; decide) (fun q => ?_) (fun q => ?_)
            · exact absurd q (by decide)
            clear q
            refine ru_iconst hX dX4_fields_70 (fun _ => ?_)
            exact ru_ireturn hX dX4_fields_71 (Or.inl rfl) ⟨Nat.zero_le _, Nat.zero_le _⟩ (fun _ => h)
          · have q13 := q
            replace h := h.2 q13
            refine ru_iload_n hX dX4_fields_35 rfl (fun _ => ?_)
            refine ru_sipush hX dX4_fields_36 (by decide) (fun _ => ?_)
            refine ru_icmp_gt (tgt := 62) hX dX4_fields_39 (by decide) k11 (by unfold eh_r; decide) (fun q => ?_) (fun q => ?_)
            · have q14 := q
              replace h := h.1 q14
              refine ru_iconst hX dX4_fields_62 (fun _ => ?_)
              refine ru_istore (ls1 := [some (.inr (some (4, 0))), some (.inl a1), some (.inl a2), some (.inl a3), some (.inl a4), some (.inl 0)]) hX dX4_fields_63 (Nat.le_of_ble_eq_true rfl) rfl (fun _ => ?_)
              refine ru_iload hX dX4_fields_65 rfl (fun _ => ?_)
              refine ru_if_ne (tgt := 72) hX dX4_fields_67 (by decide) (by unfold eh_r; decide) (fun q => ?_) (fun q => ?_)
              · exact absurd q (by decide)
              clear q
              refine ru_iconst hX dX4_fields_70 (fun _ => ?_)
              exact ru_ireturn hX dX4_fields_71 (Or.inl rfl) ⟨Nat.zero_le _, Nat.zero_le _⟩ (fun _ => h)
            · have q15 := q
              replace h := h.2 q15
              refine ru_iload hX dX4_fields_42 rfl (fun _ => ?_)
              refine ru_sipush hX dX4_fields_44 (by decide) (fun _ => ?_)
              obtain ⟨k16, h⟩ := h
              refine ru_icmp_lt (tgt := 62) hX dX4_fields_47 (by decide) k16 (by unfold eh_r; decide) (fun q => ?_) (fun q => ?_)
              · have q17 := q
                replace h := h.1 q17
                refine ru_iconst hX dX4_fields_62 (fun _ => ?_)
                refine ru_istore (ls1 := [some (.inr (some (4, 0))), some (.inl a1), some (.inl a2), some (.inl a3), some (.inl a4), some (.inl 0)]) hX dX4_fields_63 (Nat.le_of_ble_eq_true rfl) rfl (fun _ => ?_)
                refine ru_iload hX dX4_fields_65 rfl (fun _ => ?_)
                refine ru_if_ne (tgt := 72) hX dX4_fields_67 (by decide) (by unfold eh_r; decide) (fun q => ?_) (fun q => ?_)
                · exact absurd q (by decide)
                clear q
                refine ru_iconst hX dX4_fields_70 (fun _ => ?_)
                exact ru_ireturn hX dX4_fields_71 (Or.inl rfl) ⟨Nat.zero_le _, Nat.zero_le _⟩ (fun _ => h)
              · have q18 := q
                replace h := h.2 q18
                refine ru_iload hX dX4_fields_50 rfl (fun _ => ?_)
                refine ru_sipush hX dX4_fields_52 (by decide) (fun _ => ?_)
                refine ru_icmp_gt (tgt := 62) hX dX4_fields_55 (by decide) k16 (by unfold eh_r; decide) (fun q => ?_) (fun q => ?_)
                · have q19 := q
                  replace h := h.1 q19
                  refine ru_iconst hX dX4_fields_62 (fun _ => ?_)
                  refine ru_istore (ls1 := [some (.inr (some (4, 0))), some (.inl a1), some (.inl a2), some (.inl a3), some (.inl a4), some (.inl 0)]) hX dX4_fields_63 (Nat.le_of_ble_eq_true rfl) rfl (fun _ => ?_)
                  refine ru_iload hX dX4_fields_65 rfl (fun _ => ?_)
                  refine ru_if_ne (tgt := 72) hX dX4_fields_67 (by decide) (by unfold eh_r; decide) (fun q => ?_) (fun q => ?_)
                  · exact absurd q (by decide)
                  clear q
                  refine ru_iconst hX dX4_fields_70 (fun _ => ?_)
                  exact ru_ireturn hX dX4_fields_71 (Or.inl rfl) ⟨Nat.zero_le _, Nat.zero_le _⟩ (fun _ => h)
                · have q20 := q
                  replace h := h.2 q20
                  refine ru_iconst hX dX4_fields_58 (fun _ => ?_)
                  refine ru_goto (tgt := 63) hX dX4_fields_59 (by decide) ?_
                  refine ru_istore (ls1 := [some (.inr (some (4, 0))), some (.inl a1), some (.inl a2), some (.inl a3), some (.inl a4), some (.inl 1)]) hX dX4_fields_63 (Nat.le_of_ble_eq_true rfl) rfl (fun _ => ?_)
                  refine ru_iload hX dX4_fields_65 rfl (fun _ => ?_)
                  refine ru_if_ne (tgt := 72) hX dX4_fields_67 (by decide) (by unfold eh_r; decide) (fun q => ?_) (fun q => ?_)
                  rotate_left
                  · exact absurd q (by decide)
                  clear q
                  refine ru_aload_n hX dX4_fields_72 rfl (fun _ => ?_)
                  refine ru_get (v := .inr (some (502, 0))) hX dX4_fields_73 rfl ⟨by decide, by decide⟩ rfl (fun _ => ?_)
                  refine ru_iconst hX dX4_fields_76 (fun _ => ?_)
                  refine ru_iload_n hX dX4_fields_77 rfl (fun _ => ?_)
                  refine ru_iastore hX dX4_fields_78 ⟨by decide, by decide⟩ rfl ⟨by decide, by decide⟩ k1 (fun _ => ?_)
                  refine ru_aload_n hX dX4_fields_79 rfl (fun hok21 => ?_)
                  refine ru_get (v := .inr (some (502, 0))) hX dX4_fields_80 rfl ⟨by decide, by decide⟩ rfl (fun _ => ?_)
                  refine ru_iconst hX dX4_fields_83 (fun _ => ?_)
                  refine ru_iload_n hX dX4_fields_84 rfl (fun _ => ?_)
                  refine ru_iastore hX dX4_fields_85 ⟨by decide, by decide⟩ rfl ⟨by decide, by decide⟩ k6 (fun _ => ?_)
                  refine ru_aload_n hX dX4_fields_86 rfl (fun hok22 => ?_)
                  refine ru_get (v := .inr (some (502, 0))) hX dX4_fields_87 rfl ⟨by decide, by decide⟩ rfl (fun _ => ?_)
                  refine ru_iconst hX dX4_fields_90 (fun _ => ?_)
                  refine ru_iload_n hX dX4_fields_91 rfl (fun _ => ?_)
                  refine ru_iastore hX dX4_fields_92 ⟨by decide, by decide⟩ rfl ⟨by decide, by decide⟩ k11 (fun _ => ?_)
                  refine ru_aload_n hX dX4_fields_93 rfl (fun hok23 => ?_)
                  refine ru_get (v := .inr (some (502, 0))) hX dX4_fields_94 rfl ⟨by decide, by decide⟩ rfl (fun _ => ?_)
                  refine ru_iconst hX dX4_fields_97 (fun _ => ?_)
                  refine ru_iload hX dX4_fields_98 rfl (fun _ => ?_)
                  refine ru_iastore hX dX4_fields_100 ⟨by decide, by decide⟩ rfl ⟨by decide, by decide⟩ k16 (fun _ => ?_)
                  refine ru_iconst hX dX4_fields_101 (fun hok24 => ?_)
                  exact ru_ireturn hX dX4_fields_102 (Or.inl rfl) ⟨Nat.zero_le _, Nat.zero_le _⟩ (fun _ => h)
theorem bX4_put_0 {cs ss : Nat → Option (Nat × eh_T)} {lim : Nat × Nat} {Rt : Option eh_V → eh_S → Prop} {X : eh_X} (hX : eh_Ru eh_nX eh_fl4 eh_kn4 cs ss lim Rt 0 cX4_put X) {T136 : eh_T} (hc136 : ss 136 = some (1, T136)) {σ : eh_S}  {a1 : Int} {a2 : Int} {a3 : Int} {o4 : Option eh_V} {o5 : Option eh_V}  (h : eh_ok σ → T136 [.inl a1] σ (0, 0) (fun r σ1 => X 4 [some (.inr (some (4, 0))), some (.inl a1), some (.inl a2), some (.inl a3), o4, o5] (r.toList ++ []) σ1 (0, 0))) : X 0 [some (.inr (some (4, 0))), some (.inl a1), some (.inl a2), some (.inl a3), o4, o5] [] σ (0, 0) := by
  refine ru_ok hX (fun hok => ?_)
  replace h := h hok
  refine ru_iload_n hX dX4_put_0 rfl (fun _ => ?_)
  exact ru_callS (as := [.inl a1]) (rest := []) hX dX4_put_1 hc136 rfl (Nat.le_of_ble_eq_true rfl) (0, 0) ⟨Nat.zero_le _, Nat.zero_le _⟩ h
theorem bX4_put_4 {cs ss : Nat → Option (Nat × eh_T)} {lim : Nat × Nat} {Rt : Option eh_V → eh_S → Prop} {X : eh_X} (hX : eh_Ru eh_nX eh_fl4 eh_kn4 cs ss lim Rt 0 cX4_put X)  {σ : eh_S}  {a1 : Int} {a2 : Int} {a3 : Int} {o4 : Option eh_V} {o5 : Option eh_V} {s0 : Int}  (h : eh_ok σ → (-2147483648 ≤ s0 ∧ s0 < 2147483648) ∧ ((s0 = 0 → Rt (some (.inl (-1))) σ) ∧ (¬ s0 = 0 → (-2147483648 ≤ a2 ∧ a2 < 2147483648) ∧ ((a2 < 0 → Rt (some (.inl (-1))) σ) ∧ (¬ a2 < 0 → ((100000 < a2 → Rt (some (.inl (-1))) σ) ∧ (¬ 100000 < a2 → (-2147483648 ≤ a3 ∧ a3 < 2147483648) ∧ ((a3 < 0 → Rt (some (.inl (-1))) σ) ∧ (¬ a3 < 0 → ((a3 ≤ 9999 → X 33 [some (.inr (some (4, 0))), some (.inl a1), some (.inl a2), some (.inl a3), some (.inl 0), o5] [] σ (0, 0)) ∧ (¬ a3 ≤ 9999 → Rt (some (.inl (-1))) σ))))))))))) : X 4 [some (.inr (some (4, 0))), some (.inl a1), some (.inl a2), some (.inl a3), o4, o5] [.inl s0] σ (0, 0) := by
  refine ru_ok hX (fun hok => ?_)
  replace h := h hok
  obtain ⟨k1, h⟩ := h
  refine ru_if_eq (tgt := 28) hX dX4_put_4 (by decide) k1 (fun q => ?_) (fun q => ?_)
  · have q2 := q
    replace h := h.1 q2
    refine ru_iconst hX dX4_put_28 (fun _ => ?_)
    exact ru_ireturn hX dX4_put_29 (Or.inl rfl) ⟨Nat.zero_le _, Nat.zero_le _⟩ (fun _ => h)
  · have q3 := q
    replace h := h.2 q3
    refine ru_iload_n hX dX4_put_7 rfl (fun _ => ?_)
    obtain ⟨k4, h⟩ := h
    refine ru_if_lt (tgt := 28) hX dX4_put_8 (by decide) k4 (fun q => ?_) (fun q => ?_)
    · have q5 := q
      replace h := h.1 q5
      refine ru_iconst hX dX4_put_28 (fun _ => ?_)
      exact ru_ireturn hX dX4_put_29 (Or.inl rfl) ⟨Nat.zero_le _, Nat.zero_le _⟩ (fun _ => h)
    · have q6 := q
      replace h := h.2 q6
      refine ru_iload_n hX dX4_put_11 rfl (fun _ => ?_)
      refine ru_ldc hX dX4_put_12 rfl (fun _ => ?_)
      refine ru_icmp_gt (tgt := 28) hX dX4_put_14 (by decide) k4 (by unfold eh_r; decide) (fun q => ?_) (fun q => ?_)
      · have q7 := q
        replace h := h.1 q7
        refine ru_iconst hX dX4_put_28 (fun _ => ?_)
        exact ru_ireturn hX dX4_put_29 (Or.inl rfl) ⟨Nat.zero_le _, Nat.zero_le _⟩ (fun _ => h)
      · have q8 := q
        replace h := h.2 q8
        refine ru_iload_n hX dX4_put_17 rfl (fun _ => ?_)
        obtain ⟨k9, h⟩ := h
        refine ru_if_lt (tgt := 28) hX dX4_put_18 (by decide) k9 (fun q => ?_) (fun q => ?_)
        · have q10 := q
          replace h := h.1 q10
          refine ru_iconst hX dX4_put_28 (fun _ => ?_)
          exact ru_ireturn hX dX4_put_29 (Or.inl rfl) ⟨Nat.zero_le _, Nat.zero_le _⟩ (fun _ => h)
        · have q11 := q
          replace h := h.2 q11
          refine ru_iload_n hX dX4_put_21 rfl (fun _ => ?_)
          refine ru_sipush hX dX4_put_22 (by decide) (fun _ => ?_)
          refine ru_icmp_le (tgt := 30) hX dX4_put_25 (by decide) k9 (by unfold eh_r; decide) (fun q => ?_) (fun q => ?_)
          · have q12 := q
            replace h := h.1 q12
            refine ru_iconst hX dX4_put_30 (fun _ => ?_)
            refine ru_istore (ls1 := [some (.inr (some (4, 0))), some (.inl a1), some (.inl a2), some (.inl a3), some (.inl 0), o5]) hX dX4_put_31 (Nat.le_of_ble_eq_true rfl) rfl (fun _ => ?_)
            exact h
          · have q13 := q
            replace h := h.2 q13
            refine ru_iconst hX dX4_put_28 (fun _ => ?_)
            exact ru_ireturn hX dX4_put_29 (Or.inl rfl) ⟨Nat.zero_le _, Nat.zero_le _⟩ (fun _ => h)
theorem bX4_put_33 {cs ss : Nat → Option (Nat × eh_T)} {lim : Nat × Nat} {Rt : Option eh_V → eh_S → Prop} {X : eh_X} (hX : eh_Ru eh_nX eh_fl4 eh_kn4 cs ss lim Rt 0 cX4_put X)  {σ : eh_S}  {a1 : Int} {a2 : Int} {a3 : Int} {a4 : Int} {o5 : Option eh_V}  (h : eh_ok σ → (-2147483648 ≤ a4 ∧ a4 < 2147483648) ∧ ((σ.1 503 0 ≤ a4 → (-2147483648 ≤ a2 ∧ a2 < 2147483648) ∧ ((σ.1 513 0 ≤ a2 → ((σ.1 503 0 = 100 → Rt (some (.inl (-4))) σ) ∧ (¬ σ.1 503 0 = 100 → (-2147483648 ≤ (σ.1 508 0) + (σ.1 503 0) ∧ (σ.1 508 0) + (σ.1 503 0) < 2147483648) ∧ (((σ.1 508 0) + (σ.1 503 0) = 1000 → Rt (some (.inl (-4))) σ) ∧ (¬ (σ.1 508 0) + (σ.1 503 0) = 1000 → X 126 [some (.inr (some (4, 0))), some (.inl a1), some (.inl a2), some (.inl a3), some (.inl (σ.1 503 0)), o5] [] σ (0, 0)))))) ∧ (¬ σ.1 513 0 ≤ a2 → Rt (some (.inl 0)) (eh_sV σ 514 0 (eh_wr ((σ.1 514 0) + 1)))))) ∧ (¬ σ.1 503 0 ≤ a4 → (0 ≤ a4 ∧ a4 < 101) ∧ (-2147483648 ≤ a2 ∧ a2 < 2147483648) ∧ ((σ.2 505 0 a4 = a2 → (-2147483648 ≤ a3 ∧ a3 < 2147483648) ∧ ((σ.2 506 0 a4 = a3 → Rt (some (.inl (-2))) σ) ∧ (¬ σ.2 506 0 a4 = a3 → X 33 [some (.inr (some (4, 0))), some (.inl a1), some (.inl a2), some (.inl a3), some (.inl (a4 + 1)), o5] [] σ (0, 0)))) ∧ (¬ σ.2 505 0 a4 = a2 → X 33 [some (.inr (some (4, 0))), some (.inl a1), some (.inl a2), some (.inl a3), some (.inl (a4 + 1)), o5] [] σ (0, 0)))))) : X 33 [some (.inr (some (4, 0))), some (.inl a1), some (.inl a2), some (.inl a3), some (.inl a4), o5] [] σ (0, 0) := by
  refine ru_ok hX (fun hok => ?_)
  replace h := h hok
  refine ru_iload hX dX4_put_33 rfl (fun _ => ?_)
  refine ru_aload_n hX dX4_put_35 rfl (fun _ => ?_)
  refine ru_get (v := .inl (σ.1 503 0)) hX dX4_put_36 rfl ⟨by decide, by decide⟩ rfl (fun _ => ?_)
  obtain ⟨k1, h⟩ := h
  refine ru_icmp_ge (tgt := 73) hX dX4_put_39 (by decide) k1 (hok.1 _ _) (fun q => ?_) (fun q => ?_)
  · have q2 := q
    replace h := h.1 q2
    refine ru_iload_n hX dX4_put_73 rfl (fun _ => ?_)
    refine ru_aload_n hX dX4_put_74 rfl (fun _ => ?_)
    refine ru_get (v := .inl (σ.1 513 0)) hX dX4_put_75 rfl ⟨by decide, by decide⟩ rfl (fun _ => ?_)
    obtain ⟨k3, h⟩ := h
    refine ru_icmp_ge (tgt := 93) hX dX4_put_78 (by decide) k3 (hok.1 _ _) (fun q => ?_) (fun q => ?_)
    · have q4 := q
      replace h := h.1 q4
      refine ru_aload_n hX dX4_put_93 rfl (fun _ => ?_)
      refine ru_get (v := .inl (σ.1 503 0)) hX dX4_put_94 rfl ⟨by decide, by decide⟩ rfl (fun _ => ?_)
      refine ru_bipush hX dX4_put_97 (by decide) (fun _ => ?_)
      refine ru_icmp_eq (tgt := 117) hX dX4_put_99 (by decide) (hok.1 _ _) (by unfold eh_r; decide) (fun q => ?_) (fun q => ?_)
      · have q5 := q
        replace h := h.1 q5
        refine ru_bipush hX dX4_put_117 (by decide) (fun _ => ?_)
        exact ru_ireturn hX dX4_put_119 (Or.inl rfl) ⟨Nat.zero_le _, Nat.zero_le _⟩ (fun _ => h)
      · have q6 := q
        replace h := h.2 q6
        refine ru_aload_n hX dX4_put_102 rfl (fun _ => ?_)
        refine ru_get (v := .inl (σ.1 508 0)) hX dX4_put_103 rfl ⟨by decide, by decide⟩ rfl (fun _ => ?_)
        refine ru_aload_n hX dX4_put_106 rfl (fun _ => ?_)
        refine ru_get (v := .inl (σ.1 503 0)) hX dX4_put_107 rfl ⟨by decide, by decide⟩ rfl (fun _ => ?_)
        refine ru_iadd hX dX4_put_110 (fun _ => ?_)
        refine ru_sipush hX dX4_put_111 (by decide) (fun _ => ?_)
        obtain ⟨k7, h⟩ := h
        refine ru_icmp_ne (tgt := 120) hX dX4_put_114 (by decide) k7 (by unfold eh_r; decide) (fun q => ?_) (fun q => ?_)
        · have q8 := q
          replace h := h.2 q8
          refine ru_aload_n hX dX4_put_120 rfl (fun _ => ?_)
          refine ru_get (v := .inl (σ.1 503 0)) hX dX4_put_121 rfl ⟨by decide, by decide⟩ rfl (fun _ => ?_)
          refine ru_istore (ls1 := [some (.inr (some (4, 0))), some (.inl a1), some (.inl a2), some (.inl a3), some (.inl (σ.1 503 0)), o5]) hX dX4_put_124 (Nat.le_of_ble_eq_true rfl) rfl (fun _ => ?_)
          exact h
        · have q9 := q
          replace h := h.1 q9
          refine ru_bipush hX dX4_put_117 (by decide) (fun _ => ?_)
          exact ru_ireturn hX dX4_put_119 (Or.inl rfl) ⟨Nat.zero_le _, Nat.zero_le _⟩ (fun _ => h)
    · have q10 := q
      replace h := h.2 q10
      refine ru_aload_n hX dX4_put_81 rfl (fun _ => ?_)
      refine ru_dup hX dX4_put_82 (fun _ => ?_)
      refine ru_get (v := .inl (σ.1 514 0)) hX dX4_put_83 rfl ⟨by decide, by decide⟩ rfl (fun _ => ?_)
      refine ru_iconst hX dX4_put_86 (fun _ => ?_)
      refine ru_iadd hX dX4_put_87 (fun _ => ?_)
      refine ru_putW (id := 514) hX dX4_put_88 rfl ⟨by decide, by decide⟩ rfl rfl (fun _ => ?_)
      refine ru_iconst hX dX4_put_91 (fun hok11 => ?_)
      exact ru_ireturn hX dX4_put_92 (Or.inl rfl) ⟨Nat.zero_le _, Nat.zero_le _⟩ (fun _ => h)
  · have q12 := q
    replace h := h.2 q12
    refine ru_aload_n hX dX4_put_42 rfl (fun _ => ?_)
    refine ru_get (v := .inr (some (505, 0))) hX dX4_put_43 rfl ⟨by decide, by decide⟩ rfl (fun _ => ?_)
    refine ru_iload hX dX4_put_46 rfl (fun _ => ?_)
    obtain ⟨k13, h⟩ := h
    refine ru_iaload hX dX4_put_48 ⟨by decide, by decide⟩ rfl k13 (fun _ => ?_)
    refine ru_iload_n hX dX4_put_49 rfl (fun _ => ?_)
    obtain ⟨k14, h⟩ := h
    refine ru_icmp_ne (tgt := 67) hX dX4_put_50 (by decide) (hok.2 _ _ _ (by decide) (by decide) (by decide) (by decide)) k14 (fun q => ?_) (fun q => ?_)
    · have q15 := q
      replace h := h.2 q15
      refine ru_iinc (ls1 := [some (.inr (some (4, 0))), some (.inl a1), some (.inl a2), some (.inl a3), some (.inl (a4 + 1)), o5]) hX dX4_put_67 rfl rfl (fun _ => ?_)
      refine ru_goto (tgt := 33) hX dX4_put_70 (by decide) ?_
      exact h
    · have q16 := q
      replace h := h.1 q16
      refine ru_aload_n hX dX4_put_53 rfl (fun _ => ?_)
      refine ru_get (v := .inr (some (506, 0))) hX dX4_put_54 rfl ⟨by decide, by decide⟩ rfl (fun _ => ?_)
      refine ru_iload hX dX4_put_57 rfl (fun _ => ?_)
      refine ru_iaload hX dX4_put_59 ⟨by decide, by decide⟩ rfl k13 (fun _ => ?_)
      refine ru_iload_n hX dX4_put_60 rfl (fun _ => ?_)
      obtain ⟨k17, h⟩ := h
      refine ru_icmp_ne (tgt := 67) hX dX4_put_61 (by decide) (hok.2 _ _ _ (by decide) (by decide) (by decide) (by decide)) k17 (fun q => ?_) (fun q => ?_)
      · have q18 := q
        replace h := h.2 q18
        refine ru_iinc (ls1 := [some (.inr (some (4, 0))), some (.inl a1), some (.inl a2), some (.inl a3), some (.inl (a4 + 1)), o5]) hX dX4_put_67 rfl rfl (fun _ => ?_)
        refine ru_goto (tgt := 33) hX dX4_put_70 (by decide) ?_
        exact h
      · have q19 := q
        replace h := h.1 q19
        refine ru_bipush hX dX4_put_64 (by decide) (fun _ => ?_)
        exact ru_ireturn hX dX4_put_66 (Or.inl rfl) ⟨Nat.zero_le _, Nat.zero_le _⟩ (fun _ => h)
theorem bX4_put_126 {cs ss : Nat → Option (Nat × eh_T)} {lim : Nat × Nat} {Rt : Option eh_V → eh_S → Prop} {X : eh_X} (hX : eh_Ru eh_nX eh_fl4 eh_kn4 cs ss lim Rt 0 cX4_put X) {T217 : eh_T} (hc217 : cs 217 = some (3, T217)) {σ : eh_S}  {a1 : Int} {a2 : Int} {a3 : Int} {a4 : Int} {o5 : Option eh_V}  (h : eh_ok σ → (-2147483648 ≤ a4 ∧ a4 < 2147483648) ∧ ((a4 ≤ 0 → (0 ≤ a4 ∧ a4 < 101) ∧ (-2147483648 ≤ a1 ∧ a1 < 2147483648) ∧ (-2147483648 ≤ a2 ∧ a2 < 2147483648) ∧ (-2147483648 ≤ a3 ∧ a3 < 2147483648) ∧ X 213 [some (.inr (some (4, 0))), some (.inl a1), some (.inl a2), some (.inl a3), some (.inl a4), some (.inl 0)] [] (eh_sA (eh_sA (eh_sA σ 504 0 a4 a1) 505 0 a4 a2) 506 0 a4 a3) (0, 0)) ∧ (¬ a4 ≤ 0 → (0 ≤ a4 - 1 ∧ a4 - 1 < 101) ∧ (-2147483648 ≤ a2 ∧ a2 < 2147483648) ∧ ((a2 < σ.2 505 0 (a4 - 1) → T217 [.inr (some (4, 0)), .inl (a4 - 1), .inl a4] σ (0, 0) (fun r σ1 => X 180 [some (.inr (some (4, 0))), some (.inl a1), some (.inl a2), some (.inl a3), some (.inl a4), o5] (r.toList ++ []) σ1 (0, 0))) ∧ (¬ a2 < σ.2 505 0 (a4 - 1) → ((σ.2 505 0 (a4 - 1) = a2 → (-2147483648 ≤ a3 ∧ a3 < 2147483648) ∧ ((σ.2 506 0 (a4 - 1) ≤ a3 → (0 ≤ a4 ∧ a4 < 101) ∧ (-2147483648 ≤ a1 ∧ a1 < 2147483648) ∧ X 213 [some (.inr (some (4, 0))), some (.inl a1), some (.inl a2), some (.inl a3), some (.inl a4), some (.inl 0)] [] (eh_sA (eh_sA (eh_sA σ 504 0 a4 a1) 505 0 a4 a2) 506 0 a4 a3) (0, 0)) ∧ (¬ σ.2 506 0 (a4 - 1) ≤ a3 → T217 [.inr (some (4, 0)), .inl (a4 - 1), .inl a4] σ (0, 0) (fun r σ1 => X 180 [some (.inr (some (4, 0))), some (.inl a1), some (.inl a2), some (.inl a3), some (.inl a4), o5] (r.toList ++ []) σ1 (0, 0))))) ∧ (¬ σ.2 505 0 (a4 - 1) = a2 → (0 ≤ a4 ∧ a4 < 101) ∧ (-2147483648 ≤ a1 ∧ a1 < 2147483648) ∧ (-2147483648 ≤ a3 ∧ a3 < 2147483648) ∧ X 213 [some (.inr (some (4, 0))), some (.inl a1), some (.inl a2), some (.inl a3), some (.inl a4), some (.inl 0)] [] (eh_sA (eh_sA (eh_sA σ 504 0 a4 a1) 505 0 a4 a2) 506 0 a4 a3) (0, 0)))))))) : X 126 [some (.inr (some (4, 0))), some (.inl a1), some (.inl a2), some (.inl a3), some (.inl a4), o5] [] σ (0, 0) := by
  refine ru_ok hX (fun hok => ?_)
  replace h := h hok
  refine ru_iload hX dX4_put_126 rfl (fun _ => ?_)
  obtain ⟨k1, h⟩ := h
  refine ru_if_le (tgt := 186) hX dX4_put_128 (by decide) k1 (fun q => ?_) (fun q => ?_)
  · have q2 := q
    replace h := h.1 q2
    refine ru_aload_n hX dX4_put_186 rfl (fun _ => ?_)
    refine ru_get (v := .inr (some (504, 0))) hX dX4_put_187 rfl ⟨by decide, by decide⟩ rfl (fun _ => ?_)
    refine ru_iload hX dX4_put_190 rfl (fun _ => ?_)
    refine ru_iload_n hX dX4_put_192 rfl (fun _ => ?_)
    obtain ⟨k3, h⟩ := h
    obtain ⟨k4, h⟩ := h
    refine ru_iastore hX dX4_put_193 ⟨by decide, by decide⟩ rfl k3 k4 (fun _ => ?_)
    refine ru_aload_n hX dX4_put_194 rfl (fun hok5 => ?_)
    refine ru_get (v := .inr (some (505, 0))) hX dX4_put_195 rfl ⟨by decide, by decide⟩ rfl (fun _ => ?_)
    refine ru_iload hX dX4_put_198 rfl (fun _ => ?_)
    refine ru_iload_n hX dX4_put_200 rfl (fun _ => ?_)
    obtain ⟨k6, h⟩ := h
    refine ru_iastore hX dX4_put_201 ⟨by decide, by decide⟩ rfl k3 k6 (fun _ => ?_)
    refine ru_aload_n hX dX4_put_202 rfl (fun hok7 => ?_)
    refine ru_get (v := .inr (some (506, 0))) hX dX4_put_203 rfl ⟨by decide, by decide⟩ rfl (fun _ => ?_)
    refine ru_iload hX dX4_put_206 rfl (fun _ => ?_)
    refine ru_iload_n hX dX4_put_208 rfl (fun _ => ?_)
    obtain ⟨k8, h⟩ := h
    refine ru_iastore hX dX4_put_209 ⟨by decide, by decide⟩ rfl k3 k8 (fun _ => ?_)
    refine ru_iconst hX dX4_put_210 (fun hok9 => ?_)
    refine ru_istore (ls1 := [some (.inr (some (4, 0))), some (.inl a1), some (.inl a2), some (.inl a3), some (.inl a4), some (.inl 0)]) hX dX4_put_211 (Nat.le_of_ble_eq_true rfl) rfl (fun _ => ?_)
    exact h
  · have q10 := q
    replace h := h.2 q10
    refine ru_aload_n hX dX4_put_131 rfl (fun _ => ?_)
    refine ru_get (v := .inr (some (505, 0))) hX dX4_put_132 rfl ⟨by decide, by decide⟩ rfl (fun _ => ?_)
    refine ru_iload hX dX4_put_135 rfl (fun _ => ?_)
    refine ru_iconst hX dX4_put_137 (fun _ => ?_)
    refine ru_isub hX dX4_put_138 (fun _ => ?_)
    obtain ⟨k11, h⟩ := h
    refine ru_iaload hX dX4_put_139 ⟨by decide, by decide⟩ rfl k11 (fun _ => ?_)
    refine ru_iload_n hX dX4_put_140 rfl (fun _ => ?_)
    obtain ⟨k12, h⟩ := h
    refine ru_icmp_gt (tgt := 170) hX dX4_put_141 (by decide) (hok.2 _ _ _ (by decide) (by decide) (by decide) (by decide)) k12 (fun q => ?_) (fun q => ?_)
    · have q13 := q
      replace h := h.1 q13
      refine ru_aload_n hX dX4_put_170 rfl (fun _ => ?_)
      refine ru_iload hX dX4_put_171 rfl (fun _ => ?_)
      refine ru_iconst hX dX4_put_173 (fun _ => ?_)
      refine ru_isub hX dX4_put_174 (fun _ => ?_)
      refine ru_iload hX dX4_put_175 rfl (fun _ => ?_)
      exact ru_callV (as := [.inr (some (4, 0)), .inl (a4 - 1), .inl a4]) (rest := []) hX dX4_put_177 hc217 rfl (Nat.le_of_ble_eq_true rfl) (0, 0) ⟨Nat.zero_le _, Nat.zero_le _⟩ h
    · have q14 := q
      replace h := h.2 q14
      refine ru_aload_n hX dX4_put_144 rfl (fun _ => ?_)
      refine ru_get (v := .inr (some (505, 0))) hX dX4_put_145 rfl ⟨by decide, by decide⟩ rfl (fun _ => ?_)
      refine ru_iload hX dX4_put_148 rfl (fun _ => ?_)
      refine ru_iconst hX dX4_put_150 (fun _ => ?_)
      refine ru_isub hX dX4_put_151 (fun _ => ?_)
      refine ru_iaload hX dX4_put_152 ⟨by decide, by decide⟩ rfl k11 (fun _ => ?_)
      refine ru_iload_n hX dX4_put_153 rfl (fun _ => ?_)
      refine ru_icmp_ne (tgt := 186) hX dX4_put_154 (by decide) (hok.2 _ _ _ (by decide) (by decide) (by decide) (by decide)) k12 (fun q => ?_) (fun q => ?_)
      · have q15 := q
        replace h := h.2 q15
        refine ru_aload_n hX dX4_put_186 rfl (fun _ => ?_)
        refine ru_get (v := .inr (some (504, 0))) hX dX4_put_187 rfl ⟨by decide, by decide⟩ rfl (fun _ => ?_)
        refine ru_iload hX dX4_put_190 rfl (fun _ => ?_)
        refine ru_iload_n hX dX4_put_192 rfl (fun _ => ?_)
        obtain ⟨k16, h⟩ := h
        obtain ⟨k17, h⟩ := h
        refine ru_iastore hX dX4_put_193 ⟨by decide, by decide⟩ rfl k16 k17 (fun _ => ?_)
        refine ru_aload_n hX dX4_put_194 rfl (fun hok18 => ?_)
        refine ru_get (v := .inr (some (505, 0))) hX dX4_put_195 rfl ⟨by decide, by decide⟩ rfl (fun _ => ?_)
        refine ru_iload hX dX4_put_198 rfl (fun _ => ?_)
        refine ru_iload_n hX dX4_put_200 rfl (fun _ => ?_)
        refine ru_iastore hX dX4_put_201 ⟨by decide, by decide⟩ rfl k16 k12 (fun _ => ?_)
        refine ru_aload_n hX dX4_put_202 rfl (fun hok19 => ?_)
        refine ru_get (v := .inr (some (506, 0))) hX dX4_put_203 rfl ⟨by decide, by decide⟩ rfl (fun _ => ?_)
        refine ru_iload hX dX4_put_206 rfl (fun _ => ?_)
        refine ru_iload_n hX dX4_put_208 rfl (fun _ => ?_)
        obtain ⟨k20, h⟩ := h
        refine ru_iastore hX dX4_put_209 ⟨by decide, by decide⟩ rfl k16 k20 (fun _ => ?_)
        refine ru_iconst hX dX4_put_210 (fun hok21 => ?_)
        refine ru_istore (ls1 := [some (.inr (some (4, 0))), some (.inl a1), some (.inl a2), some (.inl a3), some (.inl a4), some (.inl 0)]) hX dX4_put_211 (Nat.le_of_ble_eq_true rfl) rfl (fun _ => ?_)
        exact h
      · have q22 := q
        replace h := h.1 q22
        refine ru_aload_n hX dX4_put_157 rfl (fun _ => ?_)
        refine ru_get (v := .inr (some (506, 0))) hX dX4_put_158 rfl ⟨by decide, by decide⟩ rfl (fun _ => ?_)
        refine ru_iload hX dX4_put_161 rfl (fun _ => ?_)
        refine ru_iconst hX dX4_put_163 (fun _ => ?_)
        refine ru_isub hX dX4_put_164 (fun _ => ?_)
        refine ru_iaload hX dX4_put_165 ⟨by decide, by decide⟩ rfl k11 (fun _ => ?_)
        refine ru_iload_n hX dX4_put_166 rfl (fun _ => ?_)
        obtain ⟨k23, h⟩ := h
        refine ru_icmp_le (tgt := 186) hX dX4_put_167 (by decide) (hok.2 _ _ _ (by decide) (by decide) (by decide) (by decide)) k23 (fun q => ?_) (fun q => ?_)
        · have q24 := q
          replace h := h.1 q24
          refine ru_aload_n hX dX4_put_186 rfl (fun _ => ?_)
          refine ru_get (v := .inr (some (504, 0))) hX dX4_put_187 rfl ⟨by decide, by decide⟩ rfl (fun _ => ?_)
          refine ru_iload hX dX4_put_190 rfl (fun _ => ?_)
          refine ru_iload_n hX dX4_put_192 rfl (fun _ => ?_)
          obtain ⟨k25, h⟩ := h
          obtain ⟨k26, h⟩ := h
          refine ru_iastore hX dX4_put_193 ⟨by decide, by decide⟩ rfl k25 k26 (fun _ => ?_)
          refine ru_aload_n hX dX4_put_194 rfl (fun hok27 => ?_)
          refine ru_get (v := .inr (some (505, 0))) hX dX4_put_195 rfl ⟨by decide, by decide⟩ rfl (fun _ => ?_)
          refine ru_iload hX dX4_put_198 rfl (fun _ => ?_)
          refine ru_iload_n hX dX4_put_200 rfl (fun _ => ?_)
          refine ru_iastore hX dX4_put_201 ⟨by decide, by decide⟩ rfl k25 k12 (fun _ => ?_)
          refine ru_aload_n hX dX4_put_202 rfl (fun hok28 => ?_)
          refine ru_get (v := .inr (some (506, 0))) hX dX4_put_203 rfl ⟨by decide, by decide⟩ rfl (fun _ => ?_)
          refine ru_iload hX dX4_put_206 rfl (fun _ => ?_)
          refine ru_iload_n hX dX4_put_208 rfl (fun _ => ?_)
          refine ru_iastore hX dX4_put_209 ⟨by decide, by decide⟩ rfl k25 k23 (fun _ => ?_)
          refine ru_iconst hX dX4_put_210 (fun hok29 => ?_)
          refine ru_istore (ls1 := [some (.inr (some (4, 0))), some (.inl a1), some (.inl a2), some (.inl a3), some (.inl a4), some (.inl 0)]) hX dX4_put_211 (Nat.le_of_ble_eq_true rfl) rfl (fun _ => ?_)
          exact h
        · have q30 := q
          replace h := h.2 q30
          refine ru_aload_n hX dX4_put_170 rfl (fun _ => ?_)
          refine ru_iload hX dX4_put_171 rfl (fun _ => ?_)
          refine ru_iconst hX dX4_put_173 (fun _ => ?_)
          refine ru_isub hX dX4_put_174 (fun _ => ?_)
          refine ru_iload hX dX4_put_175 rfl (fun _ => ?_)
          exact ru_callV (as := [.inr (some (4, 0)), .inl (a4 - 1), .inl a4]) (rest := []) hX dX4_put_177 hc217 rfl (Nat.le_of_ble_eq_true rfl) (0, 0) ⟨Nat.zero_le _, Nat.zero_le _⟩ h
theorem bX4_put_180 {cs ss : Nat → Option (Nat × eh_T)} {lim : Nat × Nat} {Rt : Option eh_V → eh_S → Prop} {X : eh_X} (hX : eh_Ru eh_nX eh_fl4 eh_kn4 cs ss lim Rt 0 cX4_put X)  {σ : eh_S}  {a1 : Int} {a2 : Int} {a3 : Int} {a4 : Int} {o5 : Option eh_V}  (h : eh_ok σ → X 126 [some (.inr (some (4, 0))), some (.inl a1), some (.inl a2), some (.inl a3), some (.inl (a4 + (-1))), o5] [] σ (0, 0)) : X 180 [some (.inr (some (4, 0))), some (.inl a1), some (.inl a2), some (.inl a3), some (.inl a4), o5] [] σ (0, 0) := by
  refine ru_ok hX (fun hok => ?_)
  replace h := h hok
  refine ru_iinc (ls1 := [some (.inr (some (4, 0))), some (.inl a1), some (.inl a2), some (.inl a3), some (.inl (a4 + (-1))), o5]) hX dX4_put_180 rfl rfl (fun _ => ?_)
  refine ru_goto (tgt := 126) hX dX4_put_183 (by decide) ?_
  exact h
theorem bX4_put_213 {cs ss : Nat → Option (Nat × eh_T)} {lim : Nat × Nat} {Rt : Option eh_V → eh_S → Prop} {X : eh_X} (hX : eh_Ru eh_nX eh_fl4 eh_kn4 cs ss lim Rt 0 cX4_put X)  {σ : eh_S}  {o1 : Option eh_V} {o2 : Option eh_V} {o3 : Option eh_V} {a4 : Int} {a5 : Int}  (h : eh_ok σ → (-2147483648 ≤ a5 ∧ a5 < 2147483648) ∧ ((4 ≤ a5 → (-2147483648 ≤ (σ.1 503 0) + 1 ∧ (σ.1 503 0) + 1 < 2147483648) ∧ Rt (some (.inl 1)) (eh_sV σ 503 0 ((σ.1 503 0) + 1))) ∧ (¬ 4 ≤ a5 → (0 ≤ a5 ∧ a5 < 4) ∧ (0 ≤ (4 * a4) + a5 ∧ (4 * a4) + a5 < 404) ∧ X 213 [some (.inr (some (4, 0))), o1, o2, o3, some (.inl a4), some (.inl (a5 + 1))] [] (eh_sA σ 507 0 ((4 * a4) + a5) (σ.2 502 0 a5)) (0, 0)))) : X 213 [some (.inr (some (4, 0))), o1, o2, o3, some (.inl a4), some (.inl a5)] [] σ (0, 0) := by
  refine ru_ok hX (fun hok => ?_)
  replace h := h hok
  refine ru_iload hX dX4_put_213 rfl (fun _ => ?_)
  refine ru_iconst hX dX4_put_215 (fun _ => ?_)
  obtain ⟨k1, h⟩ := h
  refine ru_icmp_ge (tgt := 244) hX dX4_put_216 (by decide) k1 (by unfold eh_r; decide) (fun q => ?_) (fun q => ?_)
  · have q2 := q
    replace h := h.1 q2
    refine ru_aload_n hX dX4_put_244 rfl (fun _ => ?_)
    refine ru_dup hX dX4_put_245 (fun _ => ?_)
    refine ru_get (v := .inl (σ.1 503 0)) hX dX4_put_246 rfl ⟨by decide, by decide⟩ rfl (fun _ => ?_)
    refine ru_iconst hX dX4_put_249 (fun _ => ?_)
    refine ru_iadd hX dX4_put_250 (fun _ => ?_)
    obtain ⟨k3, h⟩ := h
    refine ru_putI (id := 503) hX dX4_put_251 rfl ⟨by decide, by decide⟩ rfl k3 rfl (fun _ => ?_)
    refine ru_iconst hX dX4_put_254 (fun hok4 => ?_)
    exact ru_ireturn hX dX4_put_255 (Or.inl rfl) ⟨Nat.zero_le _, Nat.zero_le _⟩ (fun _ => h)
  · have q5 := q
    replace h := h.2 q5
    refine ru_aload_n hX dX4_put_219 rfl (fun _ => ?_)
    refine ru_get (v := .inr (some (507, 0))) hX dX4_put_220 rfl ⟨by decide, by decide⟩ rfl (fun _ => ?_)
    refine ru_iconst hX dX4_put_223 (fun _ => ?_)
    refine ru_iload hX dX4_put_224 rfl (fun _ => ?_)
    refine ru_imul hX dX4_put_226 (fun _ => ?_)
    refine ru_iload hX dX4_put_227 rfl (fun _ => ?_)
    refine ru_iadd hX dX4_put_229 (fun _ => ?_)
    refine ru_aload_n hX dX4_put_230 rfl (fun _ => ?_)
    refine ru_get (v := .inr (some (502, 0))) hX dX4_put_231 rfl ⟨by decide, by decide⟩ rfl (fun _ => ?_)
    refine ru_iload hX dX4_put_234 rfl (fun _ => ?_)
    obtain ⟨k6, h⟩ := h
    refine ru_iaload hX dX4_put_236 ⟨by decide, by decide⟩ rfl k6 (fun _ => ?_)
    obtain ⟨k7, h⟩ := h
    refine ru_iastore hX dX4_put_237 ⟨by decide, by decide⟩ rfl k7 (hok.2 _ _ _ (by decide) (by decide) (by decide) (by decide)) (fun _ => ?_)
    refine ru_iinc (ls1 := [some (.inr (some (4, 0))), o1, o2, o3, some (.inl a4), some (.inl (a5 + 1))]) hX dX4_put_238 rfl rfl (fun hok8 => ?_)
    refine ru_goto (tgt := 213) hX dX4_put_241 (by decide) ?_
    exact h
theorem bX4_moveWaiting_0 {cs ss : Nat → Option (Nat × eh_T)} {lim : Nat × Nat} {Rt : Option eh_V → eh_S → Prop} {X : eh_X} (hX : eh_Ru eh_nX eh_fl4 eh_kn4 cs ss lim Rt 2 cX4_moveWaiting X)  {σ : eh_S}  {a1 : Int} {a2 : Int} {o3 : Option eh_V}  (h : eh_ok σ → (0 ≤ a1 ∧ a1 < 101) ∧ (0 ≤ a2 ∧ a2 < 101) ∧ X 38 [some (.inr (some (4, 0))), some (.inl a1), some (.inl a2), some (.inl 0)] [] (eh_sA (eh_sA (eh_sA σ 504 0 a2 (σ.2 504 0 a1)) 505 0 a2 (σ.2 505 0 a1)) 506 0 a2 (σ.2 506 0 a1)) (0, 0)) : X 0 [some (.inr (some (4, 0))), some (.inl a1), some (.inl a2), o3] [] σ (0, 0) := by
  refine ru_ok hX (fun hok => ?_)
  replace h := h hok
  refine ru_aload_n hX dX4_moveWaiting_0 rfl (fun _ => ?_)
  refine ru_get (v := .inr (some (504, 0))) hX dX4_moveWaiting_1 rfl ⟨by decide, by decide⟩ rfl (fun _ => ?_)
  refine ru_iload_n hX dX4_moveWaiting_4 rfl (fun _ => ?_)
  refine ru_aload_n hX dX4_moveWaiting_5 rfl (fun _ => ?_)
  refine ru_get (v := .inr (some (504, 0))) hX dX4_moveWaiting_6 rfl ⟨by decide, by decide⟩ rfl (fun _ => ?_)
  refine ru_iload_n hX dX4_moveWaiting_9 rfl (fun _ => ?_)
  obtain ⟨k1, h⟩ := h
  refine ru_iaload hX dX4_moveWaiting_10 ⟨by decide, by decide⟩ rfl k1 (fun _ => ?_)
  obtain ⟨k2, h⟩ := h
  refine ru_iastore hX dX4_moveWaiting_11 ⟨by decide, by decide⟩ rfl k2 (hok.2 _ _ _ (by decide) (by decide) (by decide) (by decide)) (fun _ => ?_)
  refine ru_aload_n hX dX4_moveWaiting_12 rfl (fun hok3 => ?_)
  refine ru_get (v := .inr (some (505, 0))) hX dX4_moveWaiting_13 rfl ⟨by decide, by decide⟩ rfl (fun _ => ?_)
  refine ru_iload_n hX dX4_moveWaiting_16 rfl (fun _ => ?_)
  refine ru_aload_n hX dX4_moveWaiting_17 rfl (fun _ => ?_)
  refine ru_get (v := .inr (some (505, 0))) hX dX4_moveWaiting_18 rfl ⟨by decide, by decide⟩ rfl (fun _ => ?_)
  refine ru_iload_n hX dX4_moveWaiting_21 rfl (fun _ => ?_)
  refine ru_iaload hX dX4_moveWaiting_22 ⟨by decide, by decide⟩ rfl k1 (fun _ => ?_)
  refine ru_iastore hX dX4_moveWaiting_23 ⟨by decide, by decide⟩ rfl k2 (hok.2 _ _ _ (by decide) (by decide) (by decide) (by decide)) (fun _ => ?_)
  refine ru_aload_n hX dX4_moveWaiting_24 rfl (fun hok4 => ?_)
  refine ru_get (v := .inr (some (506, 0))) hX dX4_moveWaiting_25 rfl ⟨by decide, by decide⟩ rfl (fun _ => ?_)
  refine ru_iload_n hX dX4_moveWaiting_28 rfl (fun _ => ?_)
  refine ru_aload_n hX dX4_moveWaiting_29 rfl (fun _ => ?_)
  refine ru_get (v := .inr (some (506, 0))) hX dX4_moveWaiting_30 rfl ⟨by decide, by decide⟩ rfl (fun _ => ?_)
  refine ru_iload_n hX dX4_moveWaiting_33 rfl (fun _ => ?_)
  refine ru_iaload hX dX4_moveWaiting_34 ⟨by decide, by decide⟩ rfl k1 (fun _ => ?_)
  refine ru_iastore hX dX4_moveWaiting_35 ⟨by decide, by decide⟩ rfl k2 (hok.2 _ _ _ (by decide) (by decide) (by decide) (by decide)) (fun _ => ?_)
  refine ru_iconst hX dX4_moveWaiting_36 (fun hok5 => ?_)
  refine ru_istore_n (ls1 := [some (.inr (some (4, 0))), some (.inl a1), some (.inl a2), some (.inl 0)]) hX dX4_moveWaiting_37 (Nat.le_of_ble_eq_true rfl) rfl (fun _ => ?_)
  exact h
theorem bX4_moveWaiting_38 {cs ss : Nat → Option (Nat × eh_T)} {lim : Nat × Nat} {Rt : Option eh_V → eh_S → Prop} {X : eh_X} (hX : eh_Ru eh_nX eh_fl4 eh_kn4 cs ss lim Rt 2 cX4_moveWaiting X)  {σ : eh_S}  {a1 : Int} {a2 : Int} {a3 : Int}  (h : eh_ok σ → (-2147483648 ≤ a3 ∧ a3 < 2147483648) ∧ ((4 ≤ a3 → Rt none σ) ∧ (¬ 4 ≤ a3 → (0 ≤ (4 * a1) + a3 ∧ (4 * a1) + a3 < 404) ∧ (0 ≤ (4 * a2) + a3 ∧ (4 * a2) + a3 < 404) ∧ X 38 [some (.inr (some (4, 0))), some (.inl a1), some (.inl a2), some (.inl (a3 + 1))] [] (eh_sA σ 507 0 ((4 * a2) + a3) (σ.2 507 0 ((4 * a1) + a3))) (0, 0)))) : X 38 [some (.inr (some (4, 0))), some (.inl a1), some (.inl a2), some (.inl a3)] [] σ (0, 0) := by
  refine ru_ok hX (fun hok => ?_)
  replace h := h hok
  refine ru_iload_n hX dX4_moveWaiting_38 rfl (fun _ => ?_)
  refine ru_iconst hX dX4_moveWaiting_39 (fun _ => ?_)
  obtain ⟨k1, h⟩ := h
  refine ru_icmp_ge (tgt := 69) hX dX4_moveWaiting_40 (by decide) k1 (by unfold eh_r; decide) (fun q => ?_) (fun q => ?_)
  · have q2 := q
    replace h := h.1 q2
    exact ru_return hX dX4_moveWaiting_69 rfl ⟨Nat.zero_le _, Nat.zero_le _⟩ (fun _ => h)
  · have q3 := q
    replace h := h.2 q3
    refine ru_aload_n hX dX4_moveWaiting_43 rfl (fun _ => ?_)
    refine ru_get (v := .inr (some (507, 0))) hX dX4_moveWaiting_44 rfl ⟨by decide, by decide⟩ rfl (fun _ => ?_)
    refine ru_iconst hX dX4_moveWaiting_47 (fun _ => ?_)
    refine ru_iload_n hX dX4_moveWaiting_48 rfl (fun _ => ?_)
    refine ru_imul hX dX4_moveWaiting_49 (fun _ => ?_)
    refine ru_iload_n hX dX4_moveWaiting_50 rfl (fun _ => ?_)
    refine ru_iadd hX dX4_moveWaiting_51 (fun _ => ?_)
    refine ru_aload_n hX dX4_moveWaiting_52 rfl (fun _ => ?_)
    refine ru_get (v := .inr (some (507, 0))) hX dX4_moveWaiting_53 rfl ⟨by decide, by decide⟩ rfl (fun _ => ?_)
    refine ru_iconst hX dX4_moveWaiting_56 (fun _ => ?_)
    refine ru_iload_n hX dX4_moveWaiting_57 rfl (fun _ => ?_)
    refine ru_imul hX dX4_moveWaiting_58 (fun _ => ?_)
    refine ru_iload_n hX dX4_moveWaiting_59 rfl (fun _ => ?_)
    refine ru_iadd hX dX4_moveWaiting_60 (fun _ => ?_)
    obtain ⟨k4, h⟩ := h
    refine ru_iaload hX dX4_moveWaiting_61 ⟨by decide, by decide⟩ rfl k4 (fun _ => ?_)
    obtain ⟨k5, h⟩ := h
    refine ru_iastore hX dX4_moveWaiting_62 ⟨by decide, by decide⟩ rfl k5 (hok.2 _ _ _ (by decide) (by decide) (by decide) (by decide)) (fun _ => ?_)
    refine ru_iinc (ls1 := [some (.inr (some (4, 0))), some (.inl a1), some (.inl a2), some (.inl (a3 + 1))]) hX dX4_moveWaiting_63 rfl rfl (fun hok6 => ?_)
    refine ru_goto (tgt := 38) hX dX4_moveWaiting_66 (by decide) ?_
    exact h
theorem bX4_mark_0 {cs ss : Nat → Option (Nat × eh_T)} {lim : Nat × Nat} {Rt : Option eh_V → eh_S → Prop} {X : eh_X} (hX : eh_Ru eh_nX eh_fl4 eh_kn4 cs ss lim Rt 0 cX4_mark X)  {σ : eh_S}  {a1 : Int} {o2 : Option eh_V} {o3 : Option eh_V} {o4 : Option eh_V}  (h : eh_ok σ → (-2147483648 ≤ a1 ∧ a1 < 2147483648) ∧ ((a1 < 0 → Rt (some (.inl (-1))) σ) ∧ (¬ a1 < 0 → ((a1 ≤ 200000 → ((σ.1 513 0 ≤ a1 → X 30 [some (.inr (some (4, 0))), some (.inl a1), some (.inl 0), o3, o4] [] (eh_sV σ 513 0 a1) (0, 0)) ∧ (¬ σ.1 513 0 ≤ a1 → Rt (some (.inl (-5))) σ))) ∧ (¬ a1 ≤ 200000 → Rt (some (.inl (-1))) σ))))) : X 0 [some (.inr (some (4, 0))), some (.inl a1), o2, o3, o4] [] σ (0, 0) := by
  refine ru_ok hX (fun hok => ?_)
  replace h := h hok
  refine ru_iload_n hX dX4_mark_0 rfl (fun _ => ?_)
  obtain ⟨k1, h⟩ := h
  refine ru_if_lt (tgt := 10) hX dX4_mark_1 (by decide) k1 (fun q => ?_) (fun q => ?_)
  · have q2 := q
    replace h := h.1 q2
    refine ru_iconst hX dX4_mark_10 (fun _ => ?_)
    exact ru_ireturn hX dX4_mark_11 (Or.inl rfl) ⟨Nat.zero_le _, Nat.zero_le _⟩ (fun _ => h)
  · have q3 := q
    replace h := h.2 q3
    refine ru_iload_n hX dX4_mark_4 rfl (fun _ => ?_)
    refine ru_ldc hX dX4_mark_5 rfl (fun _ => ?_)
    refine ru_icmp_le (tgt := 12) hX dX4_mark_7 (by decide) k1 (by unfold eh_r; decide) (fun q => ?_) (fun q => ?_)
    · have q4 := q
      replace h := h.1 q4
      refine ru_iload_n hX dX4_mark_12 rfl (fun _ => ?_)
      refine ru_aload_n hX dX4_mark_13 rfl (fun _ => ?_)
      refine ru_get (v := .inl (σ.1 513 0)) hX dX4_mark_14 rfl ⟨by decide, by decide⟩ rfl (fun _ => ?_)
      refine ru_icmp_ge (tgt := 23) hX dX4_mark_17 (by decide) k1 (hok.1 _ _) (fun q => ?_) (fun q => ?_)
      · have q5 := q
        replace h := h.1 q5
        refine ru_aload_n hX dX4_mark_23 rfl (fun _ => ?_)
        refine ru_iload_n hX dX4_mark_24 rfl (fun _ => ?_)
        refine ru_putI (id := 513) hX dX4_mark_25 rfl ⟨by decide, by decide⟩ rfl k1 rfl (fun _ => ?_)
        refine ru_iconst hX dX4_mark_28 (fun hok6 => ?_)
        refine ru_istore_n (ls1 := [some (.inr (some (4, 0))), some (.inl a1), some (.inl 0), o3, o4]) hX dX4_mark_29 (Nat.le_of_ble_eq_true rfl) rfl (fun _ => ?_)
        exact h
      · have q7 := q
        replace h := h.2 q7
        refine ru_bipush hX dX4_mark_20 (by decide) (fun _ => ?_)
        exact ru_ireturn hX dX4_mark_22 (Or.inl rfl) ⟨Nat.zero_le _, Nat.zero_le _⟩ (fun _ => h)
    · have q8 := q
      replace h := h.2 q8
      refine ru_iconst hX dX4_mark_10 (fun _ => ?_)
      exact ru_ireturn hX dX4_mark_11 (Or.inl rfl) ⟨Nat.zero_le _, Nat.zero_le _⟩ (fun _ => h)
theorem bX4_mark_30 {cs ss : Nat → Option (Nat × eh_T)} {lim : Nat × Nat} {Rt : Option eh_V → eh_S → Prop} {X : eh_X} (hX : eh_Ru eh_nX eh_fl4 eh_kn4 cs ss lim Rt 0 cX4_mark X)  {σ : eh_S}  {a1 : Int} {a2 : Int} {o3 : Option eh_V} {o4 : Option eh_V}  (h : eh_ok σ → (-2147483648 ≤ a2 ∧ a2 < 2147483648) ∧ ((σ.1 503 0 ≤ a2 → X 200 [some (.inr (some (4, 0))), some (.inl a1), some (.inl a2), some (.inl a2), o4] [] σ (0, 0)) ∧ (¬ σ.1 503 0 ≤ a2 → (0 ≤ a2 ∧ a2 < 101) ∧ (-2147483648 ≤ a1 ∧ a1 < 2147483648) ∧ ((a1 ≤ σ.2 505 0 a2 → X 200 [some (.inr (some (4, 0))), some (.inl a1), some (.inl a2), some (.inl a2), o4] [] σ (0, 0)) ∧ (¬ a1 ≤ σ.2 505 0 a2 → (0 ≤ σ.1 508 0 ∧ σ.1 508 0 < 1000) ∧ X 92 [some (.inr (some (4, 0))), some (.inl a1), some (.inl a2), some (.inl (σ.1 508 0)), some (.inl 0)] [] (eh_sA (eh_sA (eh_sA σ 509 0 (σ.1 508 0) (σ.2 504 0 a2)) 510 0 (σ.1 508 0) (σ.2 505 0 a2)) 511 0 (σ.1 508 0) (σ.2 506 0 a2)) (0, 0)))))) : X 30 [some (.inr (some (4, 0))), some (.inl a1), some (.inl a2), o3, o4] [] σ (0, 0) := by
  refine ru_ok hX (fun hok => ?_)
  replace h := h hok
  refine ru_iload_n hX dX4_mark_30 rfl (fun _ => ?_)
  refine ru_aload_n hX dX4_mark_31 rfl (fun _ => ?_)
  refine ru_get (v := .inl (σ.1 503 0)) hX dX4_mark_32 rfl ⟨by decide, by decide⟩ rfl (fun _ => ?_)
  obtain ⟨k1, h⟩ := h
  refine ru_icmp_ge (tgt := 198) hX dX4_mark_35 (by decide) k1 (hok.1 _ _) (fun q => ?_) (fun q => ?_)
  · have q2 := q
    replace h := h.1 q2
    refine ru_iload_n hX dX4_mark_198 rfl (fun _ => ?_)
    refine ru_istore_n (ls1 := [some (.inr (some (4, 0))), some (.inl a1), some (.inl a2), some (.inl a2), o4]) hX dX4_mark_199 (Nat.le_of_ble_eq_true rfl) rfl (fun _ => ?_)
    exact h
  · have q3 := q
    replace h := h.2 q3
    refine ru_aload_n hX dX4_mark_38 rfl (fun _ => ?_)
    refine ru_get (v := .inr (some (505, 0))) hX dX4_mark_39 rfl ⟨by decide, by decide⟩ rfl (fun _ => ?_)
    refine ru_iload_n hX dX4_mark_42 rfl (fun _ => ?_)
    obtain ⟨k4, h⟩ := h
    refine ru_iaload hX dX4_mark_43 ⟨by decide, by decide⟩ rfl k4 (fun _ => ?_)
    refine ru_iload_n hX dX4_mark_44 rfl (fun _ => ?_)
    obtain ⟨k5, h⟩ := h
    refine ru_icmp_ge (tgt := 198) hX dX4_mark_45 (by decide) (hok.2 _ _ _ (by decide) (by decide) (by decide) (by decide)) k5 (fun q => ?_) (fun q => ?_)
    · have q6 := q
      replace h := h.1 q6
      refine ru_iload_n hX dX4_mark_198 rfl (fun _ => ?_)
      refine ru_istore_n (ls1 := [some (.inr (some (4, 0))), some (.inl a1), some (.inl a2), some (.inl a2), o4]) hX dX4_mark_199 (Nat.le_of_ble_eq_true rfl) rfl (fun _ => ?_)
      exact h
    · have q7 := q
      replace h := h.2 q7
      refine ru_aload_n hX dX4_mark_48 rfl (fun _ => ?_)
      refine ru_get (v := .inl (σ.1 508 0)) hX dX4_mark_49 rfl ⟨by decide, by decide⟩ rfl (fun _ => ?_)
      refine ru_istore_n (ls1 := [some (.inr (some (4, 0))), some (.inl a1), some (.inl a2), some (.inl (σ.1 508 0)), o4]) hX dX4_mark_52 (Nat.le_of_ble_eq_true rfl) rfl (fun _ => ?_)
      refine ru_aload_n hX dX4_mark_53 rfl (fun _ => ?_)
      refine ru_get (v := .inr (some (509, 0))) hX dX4_mark_54 rfl ⟨by decide, by decide⟩ rfl (fun _ => ?_)
      refine ru_iload_n hX dX4_mark_57 rfl (fun _ => ?_)
      refine ru_aload_n hX dX4_mark_58 rfl (fun _ => ?_)
      refine ru_get (v := .inr (some (504, 0))) hX dX4_mark_59 rfl ⟨by decide, by decide⟩ rfl (fun _ => ?_)
      refine ru_iload_n hX dX4_mark_62 rfl (fun _ => ?_)
      refine ru_iaload hX dX4_mark_63 ⟨by decide, by decide⟩ rfl k4 (fun _ => ?_)
      obtain ⟨k8, h⟩ := h
      refine ru_iastore hX dX4_mark_64 ⟨by decide, by decide⟩ rfl k8 (hok.2 _ _ _ (by decide) (by decide) (by decide) (by decide)) (fun _ => ?_)
      refine ru_aload_n hX dX4_mark_65 rfl (fun hok9 => ?_)
      refine ru_get (v := .inr (some (510, 0))) hX dX4_mark_66 rfl ⟨by decide, by decide⟩ rfl (fun _ => ?_)
      refine ru_iload_n hX dX4_mark_69 rfl (fun _ => ?_)
      refine ru_aload_n hX dX4_mark_70 rfl (fun _ => ?_)
      refine ru_get (v := .inr (some (505, 0))) hX dX4_mark_71 rfl ⟨by decide, by decide⟩ rfl (fun _ => ?_)
      refine ru_iload_n hX dX4_mark_74 rfl (fun _ => ?_)
      refine ru_iaload hX dX4_mark_75 ⟨by decide, by decide⟩ rfl k4 (fun _ => ?_)
      refine ru_iastore hX dX4_mark_76 ⟨by decide, by decide⟩ rfl k8 (hok.2 _ _ _ (by decide) (by decide) (by decide) (by decide)) (fun _ => ?_)
      refine ru_aload_n hX dX4_mark_77 rfl (fun hok10 => ?_)
      refine ru_get (v := .inr (some (511, 0))) hX dX4_mark_78 rfl ⟨by decide, by decide⟩ rfl (fun _ => ?_)
      refine ru_iload_n hX dX4_mark_81 rfl (fun _ => ?_)
      refine ru_aload_n hX dX4_mark_82 rfl (fun _ => ?_)
      refine ru_get (v := .inr (some (506, 0))) hX dX4_mark_83 rfl ⟨by decide, by decide⟩ rfl (fun _ => ?_)
      refine ru_iload_n hX dX4_mark_86 rfl (fun _ => ?_)
      refine ru_iaload hX dX4_mark_87 ⟨by decide, by decide⟩ rfl k4 (fun _ => ?_)
      refine ru_iastore hX dX4_mark_88 ⟨by decide, by decide⟩ rfl k8 (hok.2 _ _ _ (by decide) (by decide) (by decide) (by decide)) (fun _ => ?_)
      refine ru_iconst hX dX4_mark_89 (fun hok11 => ?_)
      refine ru_istore (ls1 := [some (.inr (some (4, 0))), some (.inl a1), some (.inl a2), some (.inl (σ.1 508 0)), some (.inl 0)]) hX dX4_mark_90 (Nat.le_of_ble_eq_true rfl) rfl (fun _ => ?_)
      exact h
theorem bX4_mark_92 {cs ss : Nat → Option (Nat × eh_T)} {lim : Nat × Nat} {Rt : Option eh_V → eh_S → Prop} {X : eh_X} (hX : eh_Ru eh_nX eh_fl4 eh_kn4 cs ss lim Rt 0 cX4_mark X)  {σ : eh_S}  {a1 : Int} {a2 : Int} {a3 : Int} {a4 : Int}  (h : eh_ok σ → (-2147483648 ≤ a4 ∧ a4 < 2147483648) ∧ ((4 ≤ a4 → (-2147483648 ≤ (σ.1 508 0) + 1 ∧ (σ.1 508 0) + 1 < 2147483648) ∧ X 142 [some (.inr (some (4, 0))), some (.inl a1), some (.inl (a2 + 1)), some (.inl a3), some (.inl 0)] [] (eh_sV σ 508 0 ((σ.1 508 0) + 1)) (0, 0)) ∧ (¬ 4 ≤ a4 → (0 ≤ (4 * a2) + a4 ∧ (4 * a2) + a4 < 404) ∧ (0 ≤ (4 * a3) + a4 ∧ (4 * a3) + a4 < 4000) ∧ X 92 [some (.inr (some (4, 0))), some (.inl a1), some (.inl a2), some (.inl a3), some (.inl (a4 + 1))] [] (eh_sA σ 512 0 ((4 * a3) + a4) (σ.2 507 0 ((4 * a2) + a4))) (0, 0)))) : X 92 [some (.inr (some (4, 0))), some (.inl a1), some (.inl a2), some (.inl a3), some (.inl a4)] [] σ (0, 0) := by
  refine ru_ok hX (fun hok => ?_)
  replace h := h hok
  refine ru_iload hX dX4_mark_92 rfl (fun _ => ?_)
  refine ru_iconst hX dX4_mark_94 (fun _ => ?_)
  obtain ⟨k1, h⟩ := h
  refine ru_icmp_ge (tgt := 126) hX dX4_mark_95 (by decide) k1 (by unfold eh_r; decide) (fun q => ?_) (fun q => ?_)
  · have q2 := q
    replace h := h.1 q2
    refine ru_aload_n hX dX4_mark_126 rfl (fun _ => ?_)
    refine ru_dup hX dX4_mark_127 (fun _ => ?_)
    refine ru_get (v := .inl (σ.1 508 0)) hX dX4_mark_128 rfl ⟨by decide, by decide⟩ rfl (fun _ => ?_)
    refine ru_iconst hX dX4_mark_131 (fun _ => ?_)
    refine ru_iadd hX dX4_mark_132 (fun _ => ?_)
    obtain ⟨k3, h⟩ := h
    refine ru_putI (id := 508) hX dX4_mark_133 rfl ⟨by decide, by decide⟩ rfl k3 rfl (fun _ => ?_)
    refine ru_iinc (ls1 := [some (.inr (some (4, 0))), some (.inl a1), some (.inl (a2 + 1)), some (.inl a3), some (.inl a4)]) hX dX4_mark_136 rfl rfl (fun hok4 => ?_)
    refine ru_iconst hX dX4_mark_139 (fun _ => ?_)
    refine ru_istore (ls1 := [some (.inr (some (4, 0))), some (.inl a1), some (.inl (a2 + 1)), some (.inl a3), some (.inl 0)]) hX dX4_mark_140 (Nat.le_of_ble_eq_true rfl) rfl (fun _ => ?_)
    exact h
  · have q5 := q
    replace h := h.2 q5
    refine ru_aload_n hX dX4_mark_98 rfl (fun _ => ?_)
    refine ru_get (v := .inr (some (512, 0))) hX dX4_mark_99 rfl ⟨by decide, by decide⟩ rfl (fun _ => ?_)
    refine ru_iconst hX dX4_mark_102 (fun _ => ?_)
    refine ru_iload_n hX dX4_mark_103 rfl (fun _ => ?_)
    refine ru_imul hX dX4_mark_104 (fun _ => ?_)
    refine ru_iload hX dX4_mark_105 rfl (fun _ => ?_)
    refine ru_iadd hX dX4_mark_107 (fun _ => ?_)
    refine ru_aload_n hX dX4_mark_108 rfl (fun _ => ?_)
    refine ru_get (v := .inr (some (507, 0))) hX dX4_mark_109 rfl ⟨by decide, by decide⟩ rfl (fun _ => ?_)
    refine ru_iconst hX dX4_mark_112 (fun _ => ?_)
    refine ru_iload_n hX dX4_mark_113 rfl (fun _ => ?_)
    refine ru_imul hX dX4_mark_114 (fun _ => ?_)
    refine ru_iload hX dX4_mark_115 rfl (fun _ => ?_)
    refine ru_iadd hX dX4_mark_117 (fun _ => ?_)
    obtain ⟨k6, h⟩ := h
    refine ru_iaload hX dX4_mark_118 ⟨by decide, by decide⟩ rfl k6 (fun _ => ?_)
    obtain ⟨k7, h⟩ := h
    refine ru_iastore hX dX4_mark_119 ⟨by decide, by decide⟩ rfl k7 (hok.2 _ _ _ (by decide) (by decide) (by decide) (by decide)) (fun _ => ?_)
    refine ru_iinc (ls1 := [some (.inr (some (4, 0))), some (.inl a1), some (.inl a2), some (.inl a3), some (.inl (a4 + 1))]) hX dX4_mark_120 rfl rfl (fun hok8 => ?_)
    refine ru_goto (tgt := 92) hX dX4_mark_123 (by decide) ?_
    exact h
theorem bX4_mark_142 {cs ss : Nat → Option (Nat × eh_T)} {lim : Nat × Nat} {Rt : Option eh_V → eh_S → Prop} {X : eh_X} (hX : eh_Ru eh_nX eh_fl4 eh_kn4 cs ss lim Rt 0 cX4_mark X) {T221 : eh_T} (hc221 : cs 221 = some (3, T221)) {σ : eh_S}  {a1 : Int} {a2 : Int} {a3 : Int} {a4 : Int}  (h : eh_ok σ → (-2147483648 ≤ a4 ∧ a4 < 2147483648) ∧ ((σ.1 515 0 ≤ a4 → X 30 [some (.inr (some (4, 0))), some (.inl a1), some (.inl a2), some (.inl a3), some (.inl a4)] [] σ (0, 0)) ∧ (¬ σ.1 515 0 ≤ a4 → (0 ≤ a4 ∧ a4 < 8) ∧ ((σ.2 519 0 a4 = 0 → X 189 [some (.inr (some (4, 0))), some (.inl a1), some (.inl a2), some (.inl a3), some (.inl a4)] [] σ (0, 0)) ∧ (¬ σ.2 519 0 a4 = 0 → ((σ.2 522 0 a4 = 0 → T221 [.inr (some (4, 0)), .inl a4, .inl a3] (eh_sA σ 521 0 a4 1) (0, 0) (fun r σ1 => X 189 [some (.inr (some (4, 0))), some (.inl a1), some (.inl a2), some (.inl a3), some (.inl a4)] (r.toList ++ []) σ1 (0, 0))) ∧ (¬ σ.2 522 0 a4 = 0 → X 189 [some (.inr (some (4, 0))), some (.inl a1), some (.inl a2), some (.inl a3), some (.inl a4)] [] (eh_sA σ 521 0 a4 1) (0, 0)))))))) : X 142 [some (.inr (some (4, 0))), some (.inl a1), some (.inl a2), some (.inl a3), some (.inl a4)] [] σ (0, 0) := by
  refine ru_ok hX (fun hok => ?_)
  replace h := h hok
  refine ru_iload hX dX4_mark_142 rfl (fun _ => ?_)
  refine ru_aload_n hX dX4_mark_144 rfl (fun _ => ?_)
  refine ru_get (v := .inl (σ.1 515 0)) hX dX4_mark_145 rfl ⟨by decide, by decide⟩ rfl (fun _ => ?_)
  obtain ⟨k1, h⟩ := h
  refine ru_icmp_ge (tgt := 195) hX dX4_mark_148 (by decide) k1 (hok.1 _ _) (fun q => ?_) (fun q => ?_)
  · have q2 := q
    replace h := h.1 q2
    refine ru_goto (tgt := 30) hX dX4_mark_195 (by decide) ?_
    exact h
  · have q3 := q
    replace h := h.2 q3
    refine ru_aload_n hX dX4_mark_151 rfl (fun _ => ?_)
    refine ru_get (v := .inr (some (519, 0))) hX dX4_mark_152 rfl ⟨by decide, by decide⟩ rfl (fun _ => ?_)
    refine ru_iload hX dX4_mark_155 rfl (fun _ => ?_)
    obtain ⟨k4, h⟩ := h
    refine ru_iaload hX dX4_mark_157 ⟨by decide, by decide⟩ rfl k4 (fun _ => ?_)
    refine ru_if_ne (tgt := 164) hX dX4_mark_158 (by decide) (hok.2 _ _ _ (by decide) (by decide) (by decide) (by decide)) (fun q => ?_) (fun q => ?_)
    · have q5 := q
      replace h := h.2 q5
      refine ru_aload_n hX dX4_mark_164 rfl (fun _ => ?_)
      refine ru_get (v := .inr (some (521, 0))) hX dX4_mark_165 rfl ⟨by decide, by decide⟩ rfl (fun _ => ?_)
      refine ru_iload hX dX4_mark_168 rfl (fun _ => ?_)
      refine ru_iconst hX dX4_mark_170 (fun _ => ?_)
      refine ru_zastore hX dX4_mark_171 (by decide) ⟨by decide, by decide⟩ rfl k4 (by decide) (fun _ => ?_)
      refine ru_aload_n hX dX4_mark_172 rfl (fun hok6 => ?_)
      refine ru_get (v := .inr (some (522, 0))) hX dX4_mark_173 rfl ⟨by decide, by decide⟩ rfl (fun _ => ?_)
      refine ru_iload hX dX4_mark_176 rfl (fun _ => ?_)
      refine ru_zaload hX dX4_mark_178 (by decide) ⟨by decide, by decide⟩ rfl k4 (fun _ => ?_)
      refine ru_if_ne (tgt := 189) hX dX4_mark_179 (by decide) (hok.2 _ _ _ (by decide) (by decide) (by decide) (by decide)) (fun q => ?_) (fun q => ?_)
      · have q7 := q
        replace h := h.2 q7
        exact h
      · have q8 := q
        replace h := h.1 q8
        refine ru_aload_n hX dX4_mark_182 rfl (fun _ => ?_)
        refine ru_iload hX dX4_mark_183 rfl (fun _ => ?_)
        refine ru_iload_n hX dX4_mark_185 rfl (fun _ => ?_)
        exact ru_callV (as := [.inr (some (4, 0)), .inl a4, .inl a3]) (rest := []) hX dX4_mark_186 hc221 rfl (Nat.le_of_ble_eq_true rfl) (0, 0) ⟨Nat.zero_le _, Nat.zero_le _⟩ h
    · have q9 := q
      replace h := h.1 q9
      refine ru_goto (tgt := 189) hX dX4_mark_161 (by decide) ?_
      exact h
theorem bX4_mark_189 {cs ss : Nat → Option (Nat × eh_T)} {lim : Nat × Nat} {Rt : Option eh_V → eh_S → Prop} {X : eh_X} (hX : eh_Ru eh_nX eh_fl4 eh_kn4 cs ss lim Rt 0 cX4_mark X)  {σ : eh_S}  {a1 : Int} {a2 : Int} {a3 : Int} {a4 : Int}  (h : eh_ok σ → X 142 [some (.inr (some (4, 0))), some (.inl a1), some (.inl a2), some (.inl a3), some (.inl (a4 + 1))] [] σ (0, 0)) : X 189 [some (.inr (some (4, 0))), some (.inl a1), some (.inl a2), some (.inl a3), some (.inl a4)] [] σ (0, 0) := by
  refine ru_ok hX (fun hok => ?_)
  replace h := h hok
  refine ru_iinc (ls1 := [some (.inr (some (4, 0))), some (.inl a1), some (.inl a2), some (.inl a3), some (.inl (a4 + 1))]) hX dX4_mark_189 rfl rfl (fun _ => ?_)
  refine ru_goto (tgt := 142) hX dX4_mark_192 (by decide) ?_
  exact h
theorem bX4_mark_200 {cs ss : Nat → Option (Nat × eh_T)} {lim : Nat × Nat} {Rt : Option eh_V → eh_S → Prop} {X : eh_X} (hX : eh_Ru eh_nX eh_fl4 eh_kn4 cs ss lim Rt 0 cX4_mark X) {T217 : eh_T} (hc217 : cs 217 = some (3, T217)) {σ : eh_S}  {o1 : Option eh_V} {a2 : Int} {a3 : Int} {o4 : Option eh_V}  (h : eh_ok σ → (-2147483648 ≤ a3 ∧ a3 < 2147483648) ∧ ((σ.1 503 0 ≤ a3 → (-2147483648 ≤ (σ.1 503 0) - a2 ∧ (σ.1 503 0) - a2 < 2147483648) ∧ Rt (some (.inl a2)) (eh_sV σ 503 0 ((σ.1 503 0) - a2))) ∧ (¬ σ.1 503 0 ≤ a3 → T217 [.inr (some (4, 0)), .inl a3, .inl (a3 - a2)] σ (0, 0) (fun r σ1 => X 216 [some (.inr (some (4, 0))), o1, some (.inl a2), some (.inl a3), o4] (r.toList ++ []) σ1 (0, 0))))) : X 200 [some (.inr (some (4, 0))), o1, some (.inl a2), some (.inl a3), o4] [] σ (0, 0) := by
  refine ru_ok hX (fun hok => ?_)
  replace h := h hok
  refine ru_iload_n hX dX4_mark_200 rfl (fun _ => ?_)
  refine ru_aload_n hX dX4_mark_201 rfl (fun _ => ?_)
  refine ru_get (v := .inl (σ.1 503 0)) hX dX4_mark_202 rfl ⟨by decide, by decide⟩ rfl (fun _ => ?_)
  obtain ⟨k1, h⟩ := h
  refine ru_icmp_ge (tgt := 222) hX dX4_mark_205 (by decide) k1 (hok.1 _ _) (fun q => ?_) (fun q => ?_)
  · have q2 := q
    replace h := h.1 q2
    refine ru_aload_n hX dX4_mark_222 rfl (fun _ => ?_)
    refine ru_dup hX dX4_mark_223 (fun _ => ?_)
    refine ru_get (v := .inl (σ.1 503 0)) hX dX4_mark_224 rfl ⟨by decide, by decide⟩ rfl (fun _ => ?_)
    refine ru_iload_n hX dX4_mark_227 rfl (fun _ => ?_)
    refine ru_isub hX dX4_mark_228 (fun _ => ?_)
    obtain ⟨k3, h⟩ := h
    refine ru_putI (id := 503) hX dX4_mark_229 rfl ⟨by decide, by decide⟩ rfl k3 rfl (fun _ => ?_)
    refine ru_iload_n hX dX4_mark_232 rfl (fun hok4 => ?_)
    exact ru_ireturn hX dX4_mark_233 (Or.inl rfl) ⟨Nat.zero_le _, Nat.zero_le _⟩ (fun _ => h)
  · have q5 := q
    replace h := h.2 q5
    refine ru_aload_n hX dX4_mark_208 rfl (fun _ => ?_)
    refine ru_iload_n hX dX4_mark_209 rfl (fun _ => ?_)
    refine ru_iload_n hX dX4_mark_210 rfl (fun _ => ?_)
    refine ru_iload_n hX dX4_mark_211 rfl (fun _ => ?_)
    refine ru_isub hX dX4_mark_212 (fun _ => ?_)
    exact ru_callV (as := [.inr (some (4, 0)), .inl a3, .inl (a3 - a2)]) (rest := []) hX dX4_mark_213 hc217 rfl (Nat.le_of_ble_eq_true rfl) (0, 0) ⟨Nat.zero_le _, Nat.zero_le _⟩ h
theorem bX4_mark_216 {cs ss : Nat → Option (Nat × eh_T)} {lim : Nat × Nat} {Rt : Option eh_V → eh_S → Prop} {X : eh_X} (hX : eh_Ru eh_nX eh_fl4 eh_kn4 cs ss lim Rt 0 cX4_mark X)  {σ : eh_S}  {o1 : Option eh_V} {a2 : Int} {a3 : Int} {o4 : Option eh_V}  (h : eh_ok σ → X 200 [some (.inr (some (4, 0))), o1, some (.inl a2), some (.inl (a3 + 1)), o4] [] σ (0, 0)) : X 216 [some (.inr (some (4, 0))), o1, some (.inl a2), some (.inl a3), o4] [] σ (0, 0) := by
  refine ru_ok hX (fun hok => ?_)
  replace h := h hok
  refine ru_iinc (ls1 := [some (.inr (some (4, 0))), o1, some (.inl a2), some (.inl (a3 + 1)), o4]) hX dX4_mark_216 rfl rfl (fun _ => ?_)
  refine ru_goto (tgt := 200) hX dX4_mark_219 (by decide) ?_
  exact h
theorem bX4_comes_0 {cs ss : Nat → Option (Nat × eh_T)} {lim : Nat × Nat} {Rt : Option eh_V → eh_S → Prop} {X : eh_X} (hX : eh_Ru eh_nX eh_fl4 eh_kn4 cs ss lim Rt 2 cX4_comes X)  {σ : eh_S}  {a1 : Int} {a2 : Int} {o3 : Option eh_V} {o4 : Option eh_V}  (h : eh_ok σ → X 2 [some (.inr (some (4, 0))), some (.inl a1), some (.inl a2), some (.inl 0), o4] [] σ (0, 0)) : X 0 [some (.inr (some (4, 0))), some (.inl a1), some (.inl a2), o3, o4] [] σ (0, 0) := by
  refine ru_ok hX (fun hok => ?_)
  replace h := h hok
  refine ru_iconst hX dX4_comes_0 (fun _ => ?_)
  refine ru_istore_n (ls1 := [some (.inr (some (4, 0))), some (.inl a1), some (.inl a2), some (.inl 0), o4]) hX dX4_comes_1 (Nat.le_of_ble_eq_true rfl) rfl (fun _ => ?_)
  exact h
theorem bX4_comes_2 {cs ss : Nat → Option (Nat × eh_T)} {lim : Nat × Nat} {Rt : Option eh_V → eh_S → Prop} {X : eh_X} (hX : eh_Ru eh_nX eh_fl4 eh_kn4 cs ss lim Rt 2 cX4_comes X) {T201 : eh_T} (hc201 : cs 201 = some (2, T201)) {σ : eh_S}  {a1 : Int} {a2 : Int} {a3 : Int} {o4 : Option eh_V}  (h : eh_ok σ → (0 ≤ a1 ∧ a1 < 8) ∧ (-2147483648 ≤ a3 ∧ a3 < 2147483648) ∧ ((σ.2 529 0 a1 ≤ a3 → T201 [.inr (some (4, 0)), .inl a1] σ (0, 0) (fun r σ1 => X 70 [some (.inr (some (4, 0))), some (.inl a1), some (.inl a2), some (.inl a3), o4] (r.toList ++ []) σ1 (0, 0))) ∧ (¬ σ.2 529 0 a1 ≤ a3 → (0 ≤ a2 ∧ a2 < 1000) ∧ (0 ≤ 24 * ((201 * a1) + a3) ∧ 24 * ((201 * a1) + a3) < 38592) ∧ (0 ≤ σ.2 532 0 (24 * ((201 * a1) + a3)) ∧ σ.2 532 0 (24 * ((201 * a1) + a3)) < 1000) ∧ (-2147483648 ≤ (σ.2 510 0 a2) - (σ.2 510 0 (σ.2 532 0 (24 * ((201 * a1) + a3)))) ∧ (σ.2 510 0 a2) - (σ.2 510 0 (σ.2 532 0 (24 * ((201 * a1) + a3)))) < 2147483648) ∧ (((σ.2 510 0 a2) - (σ.2 510 0 (σ.2 532 0 (24 * ((201 * a1) + a3)))) ≤ σ.2 516 0 a1 → (0 ≤ a3 ∧ a3 < 201) ∧ X 2 [some (.inr (some (4, 0))), some (.inl a1), some (.inl a2), some (.inl (a3 + 1)), o4] [] (eh_sA σ 534 0 a3 0) (0, 0)) ∧ (¬ (σ.2 510 0 a2) - (σ.2 510 0 (σ.2 532 0 (24 * ((201 * a1) + a3)))) ≤ σ.2 516 0 a1 → (0 ≤ a3 ∧ a3 < 201) ∧ X 2 [some (.inr (some (4, 0))), some (.inl a1), some (.inl a2), some (.inl (a3 + 1)), o4] [] (eh_sA σ 534 0 a3 1) (0, 0)))))) : X 2 [some (.inr (some (4, 0))), some (.inl a1), some (.inl a2), some (.inl a3), o4] [] σ (0, 0) := by
  refine ru_ok hX (fun hok => ?_)
  replace h := h hok
  refine ru_iload_n hX dX4_comes_2 rfl (fun _ => ?_)
  refine ru_aload_n hX dX4_comes_3 rfl (fun _ => ?_)
  refine ru_get (v := .inr (some (529, 0))) hX dX4_comes_4 rfl ⟨by decide, by decide⟩ rfl (fun _ => ?_)
  refine ru_iload_n hX dX4_comes_7 rfl (fun _ => ?_)
  obtain ⟨k1, h⟩ := h
  refine ru_iaload hX dX4_comes_8 ⟨by decide, by decide⟩ rfl k1 (fun _ => ?_)
  obtain ⟨k2, h⟩ := h
  refine ru_icmp_ge (tgt := 65) hX dX4_comes_9 (by decide) k2 (hok.2 _ _ _ (by decide) (by decide) (by decide) (by decide)) (fun q => ?_) (fun q => ?_)
  · have q3 := q
    replace h := h.1 q3
    refine ru_aload_n hX dX4_comes_65 rfl (fun _ => ?_)
    refine ru_iload_n hX dX4_comes_66 rfl (fun _ => ?_)
    exact ru_callV (as := [.inr (some (4, 0)), .inl a1]) (rest := []) hX dX4_comes_67 hc201 rfl (Nat.le_of_ble_eq_true rfl) (0, 0) ⟨Nat.zero_le _, Nat.zero_le _⟩ h
  · have q4 := q
    replace h := h.2 q4
    refine ru_aload_n hX dX4_comes_12 rfl (fun _ => ?_)
    refine ru_get (v := .inr (some (534, 0))) hX dX4_comes_13 rfl ⟨by decide, by decide⟩ rfl (fun _ => ?_)
    refine ru_iload_n hX dX4_comes_16 rfl (fun _ => ?_)
    refine ru_aload_n hX dX4_comes_17 rfl (fun _ => ?_)
    refine ru_get (v := .inr (some (510, 0))) hX dX4_comes_18 rfl ⟨by decide, by decide⟩ rfl (fun _ => ?_)
    refine ru_iload_n hX dX4_comes_21 rfl (fun _ => ?_)
    obtain ⟨k5, h⟩ := h
    refine ru_iaload hX dX4_comes_22 ⟨by decide, by decide⟩ rfl k5 (fun _ => ?_)
    refine ru_aload_n hX dX4_comes_23 rfl (fun _ => ?_)
    refine ru_get (v := .inr (some (510, 0))) hX dX4_comes_24 rfl ⟨by decide, by decide⟩ rfl (fun _ => ?_)
    refine ru_aload_n hX dX4_comes_27 rfl (fun _ => ?_)
    refine ru_get (v := .inr (some (532, 0))) hX dX4_comes_28 rfl ⟨by decide, by decide⟩ rfl (fun _ => ?_)
    refine ru_bipush hX dX4_comes_31 (by decide) (fun _ => ?_)
    refine ru_sipush hX dX4_comes_33 (by decide) (fun _ => ?_)
    refine ru_iload_n hX dX4_comes_36 rfl (fun _ => ?_)
    refine ru_imul hX dX4_comes_37 (fun _ => ?_)
    refine ru_iload_n hX dX4_comes_38 rfl (fun _ => ?_)
    refine ru_iadd hX dX4_comes_39 (fun _ => ?_)
    refine ru_imul hX dX4_comes_40 (fun _ => ?_)
    obtain ⟨k6, h⟩ := h
    refine ru_iaload hX dX4_comes_41 ⟨by decide, by decide⟩ rfl k6 (fun _ => ?_)
    obtain ⟨k7, h⟩ := h
    refine ru_iaload hX dX4_comes_42 ⟨by decide, by decide⟩ rfl k7 (fun _ => ?_)
    refine ru_isub hX dX4_comes_43 (fun _ => ?_)
    refine ru_aload_n hX dX4_comes_44 rfl (fun _ => ?_)
    refine ru_get (v := .inr (some (516, 0))) hX dX4_comes_45 rfl ⟨by decide, by decide⟩ rfl (fun _ => ?_)
    refine ru_iload_n hX dX4_comes_48 rfl (fun _ => ?_)
    refine ru_iaload hX dX4_comes_49 ⟨by decide, by decide⟩ rfl k1 (fun _ => ?_)
    obtain ⟨k8, h⟩ := h
    refine ru_icmp_le (tgt := 57) hX dX4_comes_50 (by decide) k8 (hok.2 _ _ _ (by decide) (by decide) (by decide) (by decide)) (fun q => ?_) (fun q => ?_)
    · have q9 := q
      replace h := h.1 q9
      refine ru_iconst hX dX4_comes_57 (fun _ => ?_)
      obtain ⟨k10, h⟩ := h
      refine ru_zastore hX dX4_comes_58 (by decide) ⟨by decide, by decide⟩ rfl k10 (by decide) (fun _ => ?_)
      refine ru_iinc (ls1 := [some (.inr (some (4, 0))), some (.inl a1), some (.inl a2), some (.inl (a3 + 1)), o4]) hX dX4_comes_59 rfl rfl (fun hok11 => ?_)
      refine ru_goto (tgt := 2) hX dX4_comes_62 (by decide) ?_
      exact h
    · have q12 := q
      replace h := h.2 q12
      refine ru_iconst hX dX4_comes_53 (fun _ => ?_)
      refine ru_goto (tgt := 58) hX dX4_comes_54 (by decide) ?_
      obtain ⟨k13, h⟩ := h
      refine ru_zastore hX dX4_comes_58 (by decide) ⟨by decide, by decide⟩ rfl k13 (by decide) (fun _ => ?_)
      refine ru_iinc (ls1 := [some (.inr (some (4, 0))), some (.inl a1), some (.inl a2), some (.inl (a3 + 1)), o4]) hX dX4_comes_59 rfl rfl (fun hok14 => ?_)
      refine ru_goto (tgt := 2) hX dX4_comes_62 (by decide) ?_
      exact h
theorem bX4_comes_70 {cs ss : Nat → Option (Nat × eh_T)} {lim : Nat × Nat} {Rt : Option eh_V → eh_S → Prop} {X : eh_X} (hX : eh_Ru eh_nX eh_fl4 eh_kn4 cs ss lim Rt 2 cX4_comes X)  {σ : eh_S}  {a1 : Int} {a2 : Int} {o3 : Option eh_V} {o4 : Option eh_V}  (h : eh_ok σ → (0 ≤ a1 ∧ a1 < 8) ∧ X 80 [some (.inr (some (4, 0))), some (.inl a1), some (.inl a2), some (.inl (σ.2 529 0 a1)), some (.inl 0)] [] σ (0, 0)) : X 70 [some (.inr (some (4, 0))), some (.inl a1), some (.inl a2), o3, o4] [] σ (0, 0) := by
  refine ru_ok hX (fun hok => ?_)
  replace h := h hok
  refine ru_aload_n hX dX4_comes_70 rfl (fun _ => ?_)
  refine ru_get (v := .inr (some (529, 0))) hX dX4_comes_71 rfl ⟨by decide, by decide⟩ rfl (fun _ => ?_)
  refine ru_iload_n hX dX4_comes_74 rfl (fun _ => ?_)
  obtain ⟨k1, h⟩ := h
  refine ru_iaload hX dX4_comes_75 ⟨by decide, by decide⟩ rfl k1 (fun _ => ?_)
  refine ru_istore_n (ls1 := [some (.inr (some (4, 0))), some (.inl a1), some (.inl a2), some (.inl (σ.2 529 0 a1)), o4]) hX dX4_comes_76 (Nat.le_of_ble_eq_true rfl) rfl (fun _ => ?_)
  refine ru_iconst hX dX4_comes_77 (fun _ => ?_)
  refine ru_istore (ls1 := [some (.inr (some (4, 0))), some (.inl a1), some (.inl a2), some (.inl (σ.2 529 0 a1)), some (.inl 0)]) hX dX4_comes_78 (Nat.le_of_ble_eq_true rfl) rfl (fun _ => ?_)
  exact h
theorem bX4_comes_80 {cs ss : Nat → Option (Nat × eh_T)} {lim : Nat × Nat} {Rt : Option eh_V → eh_S → Prop} {X : eh_X} (hX : eh_Ru eh_nX eh_fl4 eh_kn4 cs ss lim Rt 2 cX4_comes X)  {σ : eh_S}  {a1 : Int} {a2 : Int} {a3 : Int} {a4 : Int}  (h : eh_ok σ → (-2147483648 ≤ a4 ∧ a4 < 2147483648) ∧ (-2147483648 ≤ a3 ∧ a3 < 2147483648) ∧ ((a3 ≤ a4 → X 103 [some (.inr (some (4, 0))), some (.inl a1), some (.inl a2), some (.inl a3), some (.inl 0)] [] σ (0, 0)) ∧ (¬ a3 ≤ a4 → (0 ≤ a4 ∧ a4 < 201) ∧ X 80 [some (.inr (some (4, 0))), some (.inl a1), some (.inl a2), some (.inl a3), some (.inl (a4 + 1))] [] (eh_sA σ 534 0 a4 0) (0, 0)))) : X 80 [some (.inr (some (4, 0))), some (.inl a1), some (.inl a2), some (.inl a3), some (.inl a4)] [] σ (0, 0) := by
  refine ru_ok hX (fun hok => ?_)
  replace h := h hok
  refine ru_iload hX dX4_comes_80 rfl (fun _ => ?_)
  refine ru_iload_n hX dX4_comes_82 rfl (fun _ => ?_)
  obtain ⟨k1, h⟩ := h
  obtain ⟨k2, h⟩ := h
  refine ru_icmp_ge (tgt := 100) hX dX4_comes_83 (by decide) k1 k2 (fun q => ?_) (fun q => ?_)
  · have q3 := q
    replace h := h.1 q3
    refine ru_iconst hX dX4_comes_100 (fun _ => ?_)
    refine ru_istore (ls1 := [some (.inr (some (4, 0))), some (.inl a1), some (.inl a2), some (.inl a3), some (.inl 0)]) hX dX4_comes_101 (Nat.le_of_ble_eq_true rfl) rfl (fun _ => ?_)
    exact h
  · have q4 := q
    replace h := h.2 q4
    refine ru_aload_n hX dX4_comes_86 rfl (fun _ => ?_)
    refine ru_get (v := .inr (some (534, 0))) hX dX4_comes_87 rfl ⟨by decide, by decide⟩ rfl (fun _ => ?_)
    refine ru_iload hX dX4_comes_90 rfl (fun _ => ?_)
    refine ru_iconst hX dX4_comes_92 (fun _ => ?_)
    obtain ⟨k5, h⟩ := h
    refine ru_zastore hX dX4_comes_93 (by decide) ⟨by decide, by decide⟩ rfl k5 (by decide) (fun _ => ?_)
    refine ru_iinc (ls1 := [some (.inr (some (4, 0))), some (.inl a1), some (.inl a2), some (.inl a3), some (.inl (a4 + 1))]) hX dX4_comes_94 rfl rfl (fun hok6 => ?_)
    refine ru_goto (tgt := 80) hX dX4_comes_97 (by decide) ?_
    exact h
theorem bX4_comes_103 {cs ss : Nat → Option (Nat × eh_T)} {lim : Nat × Nat} {Rt : Option eh_V → eh_S → Prop} {X : eh_X} (hX : eh_Ru eh_nX eh_fl4 eh_kn4 cs ss lim Rt 2 cX4_comes X) {T201 : eh_T} (hc201 : cs 201 = some (2, T201)) {T204 : eh_T} (hc204 : cs 204 = some (4, T204)) {σ : eh_S}  {a1 : Int} {a2 : Int} {a3 : Int} {a4 : Int}  (h : eh_ok σ → (-2147483648 ≤ a4 ∧ a4 < 2147483648) ∧ (-2147483648 ≤ a3 ∧ a3 < 2147483648) ∧ ((a3 ≤ a4 → T201 [.inr (some (4, 0)), .inl a1] σ (0, 0) (fun r σ1 => X 132 [some (.inr (some (4, 0))), some (.inl a1), some (.inl a2), some (.inl a3), some (.inl a4)] (r.toList ++ []) σ1 (0, 0))) ∧ (¬ a3 ≤ a4 → T204 [.inr (some (4, 0)), .inl a1, .inl a4, .inl a2] σ (0, 0) (fun r σ1 => X 117 [some (.inr (some (4, 0))), some (.inl a1), some (.inl a2), some (.inl a3), some (.inl a4)] (r.toList ++ []) σ1 (0, 0))))) : X 103 [some (.inr (some (4, 0))), some (.inl a1), some (.inl a2), some (.inl a3), some (.inl a4)] [] σ (0, 0) := by
  refine ru_ok hX (fun hok => ?_)
  replace h := h hok
  refine ru_iload hX dX4_comes_103 rfl (fun _ => ?_)
  refine ru_iload_n hX dX4_comes_105 rfl (fun _ => ?_)
  obtain ⟨k1, h⟩ := h
  obtain ⟨k2, h⟩ := h
  refine ru_icmp_ge (tgt := 127) hX dX4_comes_106 (by decide) k1 k2 (fun q => ?_) (fun q => ?_)
  · have q3 := q
    replace h := h.1 q3
    refine ru_aload_n hX dX4_comes_127 rfl (fun _ => ?_)
    refine ru_iload_n hX dX4_comes_128 rfl (fun _ => ?_)
    exact ru_callV (as := [.inr (some (4, 0)), .inl a1]) (rest := []) hX dX4_comes_129 hc201 rfl (Nat.le_of_ble_eq_true rfl) (0, 0) ⟨Nat.zero_le _, Nat.zero_le _⟩ h
  · have q4 := q
    replace h := h.2 q4
    refine ru_aload_n hX dX4_comes_109 rfl (fun _ => ?_)
    refine ru_iload_n hX dX4_comes_110 rfl (fun _ => ?_)
    refine ru_iload hX dX4_comes_111 rfl (fun _ => ?_)
    refine ru_iload_n hX dX4_comes_113 rfl (fun _ => ?_)
    exact ru_callV (as := [.inr (some (4, 0)), .inl a1, .inl a4, .inl a2]) (rest := []) hX dX4_comes_114 hc204 rfl (Nat.le_of_ble_eq_true rfl) (0, 0) ⟨Nat.zero_le _, Nat.zero_le _⟩ h
theorem bX4_comes_117 {cs ss : Nat → Option (Nat × eh_T)} {lim : Nat × Nat} {Rt : Option eh_V → eh_S → Prop} {X : eh_X} (hX : eh_Ru eh_nX eh_fl4 eh_kn4 cs ss lim Rt 2 cX4_comes X)  {σ : eh_S}  {a1 : Int} {a2 : Int} {a3 : Int} {a4 : Int} {s0 : Int}  (h : eh_ok σ → (-2147483648 ≤ s0 ∧ s0 < 2147483648) ∧ ((s0 = 0 → Rt none σ) ∧ (¬ s0 = 0 → X 103 [some (.inr (some (4, 0))), some (.inl a1), some (.inl a2), some (.inl a3), some (.inl (a4 + 1))] [] σ (0, 0)))) : X 117 [some (.inr (some (4, 0))), some (.inl a1), some (.inl a2), some (.inl a3), some (.inl a4)] [.inl s0] σ (0, 0) := by
  refine ru_ok hX (fun hok => ?_)
  replace h := h hok
  obtain ⟨k1, h⟩ := h
  refine ru_if_ne (tgt := 121) hX dX4_comes_117 (by decide) k1 (fun q => ?_) (fun q => ?_)
  · have q2 := q
    replace h := h.2 q2
    refine ru_iinc (ls1 := [some (.inr (some (4, 0))), some (.inl a1), some (.inl a2), some (.inl a3), some (.inl (a4 + 1))]) hX dX4_comes_121 rfl rfl (fun _ => ?_)
    refine ru_goto (tgt := 103) hX dX4_comes_124 (by decide) ?_
    exact h
  · have q3 := q
    replace h := h.1 q3
    exact ru_return hX dX4_comes_120 rfl ⟨Nat.zero_le _, Nat.zero_le _⟩ (fun _ => h)
theorem bX4_comes_132 {cs ss : Nat → Option (Nat × eh_T)} {lim : Nat × Nat} {Rt : Option eh_V → eh_S → Prop} {X : eh_X} (hX : eh_Ru eh_nX eh_fl4 eh_kn4 cs ss lim Rt 2 cX4_comes X) {T173 : eh_T} (hc173 : cs 173 = some (4, T173)) {σ : eh_S}  {a1 : Int} {a2 : Int} {o3 : Option eh_V} {o4 : Option eh_V}  (h : eh_ok σ → T173 [.inr (some (4, 0)), .inl a1, .inl 0, .inl a2] (eh_sV σ 542 0 0) (0, 0) (fun r σ1 => X 144 [some (.inr (some (4, 0))), some (.inl a1), some (.inl a2), o3, o4] (r.toList ++ []) σ1 (0, 0))) : X 132 [some (.inr (some (4, 0))), some (.inl a1), some (.inl a2), o3, o4] [] σ (0, 0) := by
  refine ru_ok hX (fun hok => ?_)
  replace h := h hok
  refine ru_aload_n hX dX4_comes_132 rfl (fun _ => ?_)
  refine ru_iconst hX dX4_comes_133 (fun _ => ?_)
  refine ru_putI (id := 542) hX dX4_comes_134 rfl ⟨by decide, by decide⟩ rfl (by unfold eh_r; decide) rfl (fun _ => ?_)
  refine ru_aload_n hX dX4_comes_137 rfl (fun hok1 => ?_)
  refine ru_iload_n hX dX4_comes_138 rfl (fun _ => ?_)
  refine ru_iconst hX dX4_comes_139 (fun _ => ?_)
  refine ru_iload_n hX dX4_comes_140 rfl (fun _ => ?_)
  exact ru_callV (as := [.inr (some (4, 0)), .inl a1, .inl 0, .inl a2]) (rest := []) hX dX4_comes_141 hc173 rfl (Nat.le_of_ble_eq_true rfl) (0, 0) ⟨Nat.zero_le _, Nat.zero_le _⟩ h
theorem bX4_comes_144 {cs ss : Nat → Option (Nat × eh_T)} {lim : Nat × Nat} {Rt : Option eh_V → eh_S → Prop} {X : eh_X} (hX : eh_Ru eh_nX eh_fl4 eh_kn4 cs ss lim Rt 2 cX4_comes X) {T188 : eh_T} (hc188 : cs 188 = some (3, T188)) {σ : eh_S}  {a1 : Int} {a2 : Int} {o3 : Option eh_V} {o4 : Option eh_V} {s0 : Int}  (h : eh_ok σ → (-2147483648 ≤ s0 ∧ s0 < 2147483648) ∧ ((s0 = 0 → Rt none σ) ∧ (¬ s0 = 0 → T188 [.inr (some (4, 0)), .inl a2, .inl 0] σ (0, 0) (fun r σ1 => X 154 [some (.inr (some (4, 0))), some (.inl a1), some (.inl a2), o3, o4] (r.toList ++ []) σ1 (0, 0))))) : X 144 [some (.inr (some (4, 0))), some (.inl a1), some (.inl a2), o3, o4] [.inl s0] σ (0, 0) := by
  refine ru_ok hX (fun hok => ?_)
  replace h := h hok
  obtain ⟨k1, h⟩ := h
  refine ru_if_ne (tgt := 148) hX dX4_comes_144 (by decide) k1 (fun q => ?_) (fun q => ?_)
  · have q2 := q
    replace h := h.2 q2
    refine ru_aload_n hX dX4_comes_148 rfl (fun _ => ?_)
    refine ru_iload_n hX dX4_comes_149 rfl (fun _ => ?_)
    refine ru_iconst hX dX4_comes_150 (fun _ => ?_)
    exact ru_callV (as := [.inr (some (4, 0)), .inl a2, .inl 0]) (rest := []) hX dX4_comes_151 hc188 rfl (Nat.le_of_ble_eq_true rfl) (0, 0) ⟨Nat.zero_le _, Nat.zero_le _⟩ h
  · have q3 := q
    replace h := h.1 q3
    exact ru_return hX dX4_comes_147 rfl ⟨Nat.zero_le _, Nat.zero_le _⟩ (fun _ => h)
theorem bX4_comes_154 {cs ss : Nat → Option (Nat × eh_T)} {lim : Nat × Nat} {Rt : Option eh_V → eh_S → Prop} {X : eh_X} (hX : eh_Ru eh_nX eh_fl4 eh_kn4 cs ss lim Rt 2 cX4_comes X) {T198 : eh_T} (hc198 : cs 198 = some (2, T198)) {σ : eh_S}  {a1 : Int} {o2 : Option eh_V} {o3 : Option eh_V} {o4 : Option eh_V}  (h : eh_ok σ → T198 [.inr (some (4, 0)), .inl a1] σ (0, 0) (fun r σ1 => X 159 [some (.inr (some (4, 0))), some (.inl a1), o2, o3, o4] (r.toList ++ []) σ1 (0, 0))) : X 154 [some (.inr (some (4, 0))), some (.inl a1), o2, o3, o4] [] σ (0, 0) := by
  refine ru_ok hX (fun hok => ?_)
  replace h := h hok
  refine ru_aload_n hX dX4_comes_154 rfl (fun _ => ?_)
  refine ru_iload_n hX dX4_comes_155 rfl (fun _ => ?_)
  exact ru_callV (as := [.inr (some (4, 0)), .inl a1]) (rest := []) hX dX4_comes_156 hc198 rfl (Nat.le_of_ble_eq_true rfl) (0, 0) ⟨Nat.zero_le _, Nat.zero_le _⟩ h
theorem bX4_comes_159 {cs ss : Nat → Option (Nat × eh_T)} {lim : Nat × Nat} {Rt : Option eh_V → eh_S → Prop} {X : eh_X} (hX : eh_Ru eh_nX eh_fl4 eh_kn4 cs ss lim Rt 2 cX4_comes X) {T191 : eh_T} (hc191 : cs 191 = some (2, T191)) {σ : eh_S}  {a1 : Int} {o2 : Option eh_V} {o3 : Option eh_V} {o4 : Option eh_V} {s0 : Int}  (h : eh_ok σ → (-2147483648 ≤ s0 ∧ s0 < 2147483648) ∧ ((s0 = 0 → Rt none σ) ∧ (¬ s0 = 0 → T191 [.inr (some (4, 0)), .inl a1] σ (0, 0) (fun r σ1 => X 168 [some (.inr (some (4, 0))), some (.inl a1), o2, o3, o4] (r.toList ++ []) σ1 (0, 0))))) : X 159 [some (.inr (some (4, 0))), some (.inl a1), o2, o3, o4] [.inl s0] σ (0, 0) := by
  refine ru_ok hX (fun hok => ?_)
  replace h := h hok
  obtain ⟨k1, h⟩ := h
  refine ru_if_ne (tgt := 163) hX dX4_comes_159 (by decide) k1 (fun q => ?_) (fun q => ?_)
  · have q2 := q
    replace h := h.2 q2
    refine ru_aload_n hX dX4_comes_163 rfl (fun _ => ?_)
    refine ru_iload_n hX dX4_comes_164 rfl (fun _ => ?_)
    exact ru_callV (as := [.inr (some (4, 0)), .inl a1]) (rest := []) hX dX4_comes_165 hc191 rfl (Nat.le_of_ble_eq_true rfl) (0, 0) ⟨Nat.zero_le _, Nat.zero_le _⟩ h
  · have q3 := q
    replace h := h.1 q3
    exact ru_return hX dX4_comes_162 rfl ⟨Nat.zero_le _, Nat.zero_le _⟩ (fun _ => h)
theorem bX4_comes_168 {cs ss : Nat → Option (Nat × eh_T)} {lim : Nat × Nat} {Rt : Option eh_V → eh_S → Prop} {X : eh_X} (hX : eh_Ru eh_nX eh_fl4 eh_kn4 cs ss lim Rt 2 cX4_comes X) {T194 : eh_T} (hc194 : cs 194 = some (2, T194)) {σ : eh_S}  {a1 : Int} {o2 : Option eh_V} {o3 : Option eh_V} {o4 : Option eh_V} {s0 : Int}  (h : eh_ok σ → (-2147483648 ≤ s0 ∧ s0 < 2147483648) ∧ ((s0 = 0 → Rt none σ) ∧ (¬ s0 = 0 → T194 [.inr (some (4, 0)), .inl a1] σ (0, 0) (fun r σ1 => X 177 [some (.inr (some (4, 0))), some (.inl a1), o2, o3, o4] (r.toList ++ []) σ1 (0, 0))))) : X 168 [some (.inr (some (4, 0))), some (.inl a1), o2, o3, o4] [.inl s0] σ (0, 0) := by
  refine ru_ok hX (fun hok => ?_)
  replace h := h hok
  obtain ⟨k1, h⟩ := h
  refine ru_if_ne (tgt := 172) hX dX4_comes_168 (by decide) k1 (fun q => ?_) (fun q => ?_)
  · have q2 := q
    replace h := h.2 q2
    refine ru_aload_n hX dX4_comes_172 rfl (fun _ => ?_)
    refine ru_iload_n hX dX4_comes_173 rfl (fun _ => ?_)
    exact ru_callV (as := [.inr (some (4, 0)), .inl a1]) (rest := []) hX dX4_comes_174 hc194 rfl (Nat.le_of_ble_eq_true rfl) (0, 0) ⟨Nat.zero_le _, Nat.zero_le _⟩ h
  · have q3 := q
    replace h := h.1 q3
    exact ru_return hX dX4_comes_171 rfl ⟨Nat.zero_le _, Nat.zero_le _⟩ (fun _ => h)
theorem bX4_comes_177 {cs ss : Nat → Option (Nat × eh_T)} {lim : Nat × Nat} {Rt : Option eh_V → eh_S → Prop} {X : eh_X} (hX : eh_Ru eh_nX eh_fl4 eh_kn4 cs ss lim Rt 2 cX4_comes X)  {σ : eh_S}  {a1 : Int} {o2 : Option eh_V} {o3 : Option eh_V} {o4 : Option eh_V}  (h : eh_ok σ → (0 ≤ a1 ∧ a1 < 8) ∧ ((σ.2 517 0 a1 = 1 → (-2147483648 ≤ (σ.2 529 0 a1) - 1 ∧ (σ.2 529 0 a1) - 1 < 2147483648) ∧ Rt none (eh_sA σ 529 0 a1 ((σ.2 529 0 a1) - 1))) ∧ (¬ σ.2 517 0 a1 = 1 → Rt none σ))) : X 177 [some (.inr (some (4, 0))), some (.inl a1), o2, o3, o4] [] σ (0, 0) := by
  refine ru_ok hX (fun hok => ?_)
  replace h := h hok
  refine ru_aload_n hX dX4_comes_177 rfl (fun _ => ?_)
  refine ru_get (v := .inr (some (517, 0))) hX dX4_comes_178 rfl ⟨by decide, by decide⟩ rfl (fun _ => ?_)
  refine ru_iload_n hX dX4_comes_181 rfl (fun _ => ?_)
  obtain ⟨k1, h⟩ := h
  refine ru_iaload hX dX4_comes_182 ⟨by decide, by decide⟩ rfl k1 (fun _ => ?_)
  refine ru_iconst hX dX4_comes_183 (fun _ => ?_)
  refine ru_icmp_ne (tgt := 197) hX dX4_comes_184 (by decide) (hok.2 _ _ _ (by decide) (by decide) (by decide) (by decide)) (by unfold eh_r; decide) (fun q => ?_) (fun q => ?_)
  · have q2 := q
    replace h := h.2 q2
    exact ru_return hX dX4_comes_197 rfl ⟨Nat.zero_le _, Nat.zero_le _⟩ (fun _ => h)
  · have q3 := q
    replace h := h.1 q3
    refine ru_aload_n hX dX4_comes_187 rfl (fun _ => ?_)
    refine ru_get (v := .inr (some (529, 0))) hX dX4_comes_188 rfl ⟨by decide, by decide⟩ rfl (fun _ => ?_)
    refine ru_iload_n hX dX4_comes_191 rfl (fun _ => ?_)
    refine ru_dup2 hX dX4_comes_192 (fun _ => ?_)
    refine ru_iaload hX dX4_comes_193 ⟨by decide, by decide⟩ rfl k1 (fun _ => ?_)
    refine ru_iconst hX dX4_comes_194 (fun _ => ?_)
    refine ru_isub hX dX4_comes_195 (fun _ => ?_)
    obtain ⟨k4, h⟩ := h
    refine ru_iastore hX dX4_comes_196 ⟨by decide, by decide⟩ rfl k1 k4 (fun _ => ?_)
    exact ru_return hX dX4_comes_197 rfl ⟨Nat.zero_le _, Nat.zero_le _⟩ (fun _ => h)
theorem bX4_sweep_0 {cs ss : Nat → Option (Nat × eh_T)} {lim : Nat × Nat} {Rt : Option eh_V → eh_S → Prop} {X : eh_X} (hX : eh_Ru eh_nX eh_fl4 eh_kn4 cs ss lim Rt 2 cX4_sweep X)  {σ : eh_S}  {a1 : Int} {o2 : Option eh_V} {o3 : Option eh_V}  (h : eh_ok σ → X 4 [some (.inr (some (4, 0))), some (.inl a1), some (.inl 0), some (.inl 0)] [] σ (0, 0)) : X 0 [some (.inr (some (4, 0))), some (.inl a1), o2, o3] [] σ (0, 0) := by
  refine ru_ok hX (fun hok => ?_)
  replace h := h hok
  refine ru_iconst hX dX4_sweep_0 (fun _ => ?_)
  refine ru_istore_n (ls1 := [some (.inr (some (4, 0))), some (.inl a1), some (.inl 0), o3]) hX dX4_sweep_1 (Nat.le_of_ble_eq_true rfl) rfl (fun _ => ?_)
  refine ru_iconst hX dX4_sweep_2 (fun _ => ?_)
  refine ru_istore_n (ls1 := [some (.inr (some (4, 0))), some (.inl a1), some (.inl 0), some (.inl 0)]) hX dX4_sweep_3 (Nat.le_of_ble_eq_true rfl) rfl (fun _ => ?_)
  exact h
theorem bX4_sweep_4 {cs ss : Nat → Option (Nat × eh_T)} {lim : Nat × Nat} {Rt : Option eh_V → eh_S → Prop} {X : eh_X} (hX : eh_Ru eh_nX eh_fl4 eh_kn4 cs ss lim Rt 2 cX4_sweep X) {T181 : eh_T} (hc181 : cs 181 = some (3, T181)) {σ : eh_S}  {a1 : Int} {a2 : Int} {a3 : Int}  (h : eh_ok σ → (0 ≤ a1 ∧ a1 < 8) ∧ (-2147483648 ≤ a3 ∧ a3 < 2147483648) ∧ ((σ.2 529 0 a1 ≤ a3 → (-2147483648 ≤ a2 ∧ a2 < 2147483648) ∧ Rt none (eh_sA σ 529 0 a1 a2)) ∧ (¬ σ.2 529 0 a1 ≤ a3 → (0 ≤ a3 ∧ a3 < 201) ∧ ((σ.2 534 0 a3 = 0 → (-2147483648 ≤ a2 ∧ a2 < 2147483648) ∧ ((a2 = a3 → X 55 [some (.inr (some (4, 0))), some (.inl a1), some (.inl a2), some (.inl a3)] [] σ (0, 0)) ∧ (¬ a2 = a3 → T181 [.inr (some (4, 0)), .inl a1, .inl a3] σ (0, 0) (fun r σ1 => X 37 [some (.inr (some (4, 0))), some (.inl a1), some (.inl a2), some (.inl a3)] (r.toList ++ []) σ1 (0, 0))))) ∧ (¬ σ.2 534 0 a3 = 0 → X 4 [some (.inr (some (4, 0))), some (.inl a1), some (.inl a2), some (.inl (a3 + 1))] [] σ (0, 0)))))) : X 4 [some (.inr (some (4, 0))), some (.inl a1), some (.inl a2), some (.inl a3)] [] σ (0, 0) := by
  refine ru_ok hX (fun hok => ?_)
  replace h := h hok
  refine ru_iload_n hX dX4_sweep_4 rfl (fun _ => ?_)
  refine ru_aload_n hX dX4_sweep_5 rfl (fun _ => ?_)
  refine ru_get (v := .inr (some (529, 0))) hX dX4_sweep_6 rfl ⟨by decide, by decide⟩ rfl (fun _ => ?_)
  refine ru_iload_n hX dX4_sweep_9 rfl (fun _ => ?_)
  obtain ⟨k1, h⟩ := h
  refine ru_iaload hX dX4_sweep_10 ⟨by decide, by decide⟩ rfl k1 (fun _ => ?_)
  obtain ⟨k2, h⟩ := h
  refine ru_icmp_ge (tgt := 64) hX dX4_sweep_11 (by decide) k2 (hok.2 _ _ _ (by decide) (by decide) (by decide) (by decide)) (fun q => ?_) (fun q => ?_)
  · have q3 := q
    replace h := h.1 q3
    refine ru_aload_n hX dX4_sweep_64 rfl (fun _ => ?_)
    refine ru_get (v := .inr (some (529, 0))) hX dX4_sweep_65 rfl ⟨by decide, by decide⟩ rfl (fun _ => ?_)
    refine ru_iload_n hX dX4_sweep_68 rfl (fun _ => ?_)
    refine ru_iload_n hX dX4_sweep_69 rfl (fun _ => ?_)
    obtain ⟨k4, h⟩ := h
    refine ru_iastore hX dX4_sweep_70 ⟨by decide, by decide⟩ rfl k1 k4 (fun _ => ?_)
    exact ru_return hX dX4_sweep_71 rfl ⟨Nat.zero_le _, Nat.zero_le _⟩ (fun _ => h)
  · have q5 := q
    replace h := h.2 q5
    refine ru_aload_n hX dX4_sweep_14 rfl (fun _ => ?_)
    refine ru_get (v := .inr (some (534, 0))) hX dX4_sweep_15 rfl ⟨by decide, by decide⟩ rfl (fun _ => ?_)
    refine ru_iload_n hX dX4_sweep_18 rfl (fun _ => ?_)
    obtain ⟨k6, h⟩ := h
    refine ru_zaload hX dX4_sweep_19 (by decide) ⟨by decide, by decide⟩ rfl k6 (fun _ => ?_)
    refine ru_if_eq (tgt := 26) hX dX4_sweep_20 (by decide) (hok.2 _ _ _ (by decide) (by decide) (by decide) (by decide)) (fun q => ?_) (fun q => ?_)
    · have q7 := q
      replace h := h.1 q7
      refine ru_iload_n hX dX4_sweep_26 rfl (fun _ => ?_)
      refine ru_iload_n hX dX4_sweep_27 rfl (fun _ => ?_)
      obtain ⟨k8, h⟩ := h
      refine ru_icmp_eq (tgt := 55) hX dX4_sweep_28 (by decide) k8 k2 (fun q => ?_) (fun q => ?_)
      · have q9 := q
        replace h := h.1 q9
        exact h
      · have q10 := q
        replace h := h.2 q10
        refine ru_aload_n hX dX4_sweep_31 rfl (fun _ => ?_)
        refine ru_iload_n hX dX4_sweep_32 rfl (fun _ => ?_)
        refine ru_iload_n hX dX4_sweep_33 rfl (fun _ => ?_)
        exact ru_callV (as := [.inr (some (4, 0)), .inl a1, .inl a3]) (rest := []) hX dX4_sweep_34 hc181 rfl (Nat.le_of_ble_eq_true rfl) (0, 0) ⟨Nat.zero_le _, Nat.zero_le _⟩ h
    · have q11 := q
      replace h := h.2 q11
      refine ru_goto (tgt := 58) hX dX4_sweep_23 (by decide) ?_
      refine ru_iinc (ls1 := [some (.inr (some (4, 0))), some (.inl a1), some (.inl a2), some (.inl (a3 + 1))]) hX dX4_sweep_58 rfl rfl (fun _ => ?_)
      refine ru_goto (tgt := 4) hX dX4_sweep_61 (by decide) ?_
      exact h
theorem bX4_sweep_37 {cs ss : Nat → Option (Nat × eh_T)} {lim : Nat × Nat} {Rt : Option eh_V → eh_S → Prop} {X : eh_X} (hX : eh_Ru eh_nX eh_fl4 eh_kn4 cs ss lim Rt 2 cX4_sweep X) {T177 : eh_T} (hc177 : cs 177 = some (4, T177)) {σ : eh_S}  {a1 : Int} {a2 : Int} {a3 : Int}  (h : eh_ok σ → (0 ≤ (201 * a1) + a3 ∧ (201 * a1) + a3 < 1608) ∧ T177 [.inr (some (4, 0)), .inl a1, .inl a2, .inl (σ.2 531 0 ((201 * a1) + a3))] σ (0, 0) (fun r σ1 => X 55 [some (.inr (some (4, 0))), some (.inl a1), some (.inl a2), some (.inl a3)] (r.toList ++ []) σ1 (0, 0))) : X 37 [some (.inr (some (4, 0))), some (.inl a1), some (.inl a2), some (.inl a3)] [] σ (0, 0) := by
  refine ru_ok hX (fun hok => ?_)
  replace h := h hok
  refine ru_aload_n hX dX4_sweep_37 rfl (fun _ => ?_)
  refine ru_iload_n hX dX4_sweep_38 rfl (fun _ => ?_)
  refine ru_iload_n hX dX4_sweep_39 rfl (fun _ => ?_)
  refine ru_aload_n hX dX4_sweep_40 rfl (fun _ => ?_)
  refine ru_get (v := .inr (some (531, 0))) hX dX4_sweep_41 rfl ⟨by decide, by decide⟩ rfl (fun _ => ?_)
  refine ru_sipush hX dX4_sweep_44 (by decide) (fun _ => ?_)
  refine ru_iload_n hX dX4_sweep_47 rfl (fun _ => ?_)
  refine ru_imul hX dX4_sweep_48 (fun _ => ?_)
  refine ru_iload_n hX dX4_sweep_49 rfl (fun _ => ?_)
  refine ru_iadd hX dX4_sweep_50 (fun _ => ?_)
  obtain ⟨k1, h⟩ := h
  refine ru_zaload hX dX4_sweep_51 (by decide) ⟨by decide, by decide⟩ rfl k1 (fun _ => ?_)
  exact ru_callV (as := [.inr (some (4, 0)), .inl a1, .inl a2, .inl (σ.2 531 0 ((201 * a1) + a3))]) (rest := []) hX dX4_sweep_52 hc177 rfl (Nat.le_of_ble_eq_true rfl) (0, 0) ⟨Nat.zero_le _, Nat.zero_le _⟩ h
theorem bX4_sweep_55 {cs ss : Nat → Option (Nat × eh_T)} {lim : Nat × Nat} {Rt : Option eh_V → eh_S → Prop} {X : eh_X} (hX : eh_Ru eh_nX eh_fl4 eh_kn4 cs ss lim Rt 2 cX4_sweep X)  {σ : eh_S}  {a1 : Int} {a2 : Int} {a3 : Int}  (h : eh_ok σ → X 4 [some (.inr (some (4, 0))), some (.inl a1), some (.inl (a2 + 1)), some (.inl (a3 + 1))] [] σ (0, 0)) : X 55 [some (.inr (some (4, 0))), some (.inl a1), some (.inl a2), some (.inl a3)] [] σ (0, 0) := by
  refine ru_ok hX (fun hok => ?_)
  replace h := h hok
  refine ru_iinc (ls1 := [some (.inr (some (4, 0))), some (.inl a1), some (.inl (a2 + 1)), some (.inl a3)]) hX dX4_sweep_55 rfl rfl (fun _ => ?_)
  refine ru_iinc (ls1 := [some (.inr (some (4, 0))), some (.inl a1), some (.inl (a2 + 1)), some (.inl (a3 + 1))]) hX dX4_sweep_58 rfl rfl (fun _ => ?_)
  refine ru_goto (tgt := 4) hX dX4_sweep_61 (by decide) ?_
  exact h
theorem bX4_load_0 {cs ss : Nat → Option (Nat × eh_T)} {lim : Nat × Nat} {Rt : Option eh_V → eh_S → Prop} {X : eh_X} (hX : eh_Ru eh_nX eh_fl4 eh_kn4 cs ss lim Rt 2 cX4_load X)  {σ : eh_S}  {a1 : Int} {a2 : Int} {o3 : Option eh_V} {o4 : Option eh_V}  (h : eh_ok σ → (0 ≤ (201 * a1) + a2 ∧ (201 * a1) + a2 < 1608) ∧ X 21 [some (.inr (some (4, 0))), some (.inl a1), some (.inl a2), some (.inl ((201 * a1) + a2)), some (.inl 0)] [] (eh_sV σ 542 0 (σ.2 530 0 ((201 * a1) + a2))) (0, 0)) : X 0 [some (.inr (some (4, 0))), some (.inl a1), some (.inl a2), o3, o4] [] σ (0, 0) := by
  refine ru_ok hX (fun hok => ?_)
  replace h := h hok
  refine ru_sipush hX dX4_load_0 (by decide) (fun _ => ?_)
  refine ru_iload_n hX dX4_load_3 rfl (fun _ => ?_)
  refine ru_imul hX dX4_load_4 (fun _ => ?_)
  refine ru_iload_n hX dX4_load_5 rfl (fun _ => ?_)
  refine ru_iadd hX dX4_load_6 (fun _ => ?_)
  refine ru_istore_n (ls1 := [some (.inr (some (4, 0))), some (.inl a1), some (.inl a2), some (.inl ((201 * a1) + a2)), o4]) hX dX4_load_7 (Nat.le_of_ble_eq_true rfl) rfl (fun _ => ?_)
  refine ru_aload_n hX dX4_load_8 rfl (fun _ => ?_)
  refine ru_aload_n hX dX4_load_9 rfl (fun _ => ?_)
  refine ru_get (v := .inr (some (530, 0))) hX dX4_load_10 rfl ⟨by decide, by decide⟩ rfl (fun _ => ?_)
  refine ru_iload_n hX dX4_load_13 rfl (fun _ => ?_)
  obtain ⟨k1, h⟩ := h
  refine ru_iaload hX dX4_load_14 ⟨by decide, by decide⟩ rfl k1 (fun _ => ?_)
  refine ru_putI (id := 542) hX dX4_load_15 rfl ⟨by decide, by decide⟩ rfl (hok.2 _ _ _ (by decide) (by decide) (by decide) (by decide)) rfl (fun _ => ?_)
  refine ru_iconst hX dX4_load_18 (fun hok2 => ?_)
  refine ru_istore (ls1 := [some (.inr (some (4, 0))), some (.inl a1), some (.inl a2), some (.inl ((201 * a1) + a2)), some (.inl 0)]) hX dX4_load_19 (Nat.le_of_ble_eq_true rfl) rfl (fun _ => ?_)
  exact h
theorem bX4_load_21 {cs ss : Nat → Option (Nat × eh_T)} {lim : Nat × Nat} {Rt : Option eh_V → eh_S → Prop} {X : eh_X} (hX : eh_Ru eh_nX eh_fl4 eh_kn4 cs ss lim Rt 2 cX4_load X)  {σ : eh_S}  {o1 : Option eh_V} {o2 : Option eh_V} {a3 : Int} {a4 : Int}  (h : eh_ok σ → (-2147483648 ≤ a4 ∧ a4 < 2147483648) ∧ ((σ.1 542 0 ≤ a4 → Rt none σ) ∧ (¬ σ.1 542 0 ≤ a4 → (0 ≤ (24 * a3) + a4 ∧ (24 * a3) + a4 < 38592) ∧ (0 ≤ a4 ∧ a4 < 25) ∧ X 21 [some (.inr (some (4, 0))), o1, o2, some (.inl a3), some (.inl (a4 + 1))] [] (eh_sA (eh_sA σ 540 0 a4 (σ.2 532 0 ((24 * a3) + a4))) 541 0 a4 (σ.2 533 0 ((24 * a3) + a4))) (0, 0)))) : X 21 [some (.inr (some (4, 0))), o1, o2, some (.inl a3), some (.inl a4)] [] σ (0, 0) := by
  refine ru_ok hX (fun hok => ?_)
  replace h := h hok
  refine ru_iload hX dX4_load_21 rfl (fun _ => ?_)
  refine ru_aload_n hX dX4_load_23 rfl (fun _ => ?_)
  refine ru_get (v := .inl (σ.1 542 0)) hX dX4_load_24 rfl ⟨by decide, by decide⟩ rfl (fun _ => ?_)
  obtain ⟨k1, h⟩ := h
  refine ru_icmp_ge (tgt := 74) hX dX4_load_27 (by decide) k1 (hok.1 _ _) (fun q => ?_) (fun q => ?_)
  · have q2 := q
    replace h := h.1 q2
    exact ru_return hX dX4_load_74 rfl ⟨Nat.zero_le _, Nat.zero_le _⟩ (fun _ => h)
  · have q3 := q
    replace h := h.2 q3
    refine ru_aload_n hX dX4_load_30 rfl (fun _ => ?_)
    refine ru_get (v := .inr (some (540, 0))) hX dX4_load_31 rfl ⟨by decide, by decide⟩ rfl (fun _ => ?_)
    refine ru_iload hX dX4_load_34 rfl (fun _ => ?_)
    refine ru_aload_n hX dX4_load_36 rfl (fun _ => ?_)
    refine ru_get (v := .inr (some (532, 0))) hX dX4_load_37 rfl ⟨by decide, by decide⟩ rfl (fun _ => ?_)
    refine ru_bipush hX dX4_load_40 (by decide) (fun _ => ?_)
    refine ru_iload_n hX dX4_load_42 rfl (fun _ => ?_)
    refine ru_imul hX dX4_load_43 (fun _ => ?_)
    refine ru_iload hX dX4_load_44 rfl (fun _ => ?_)
    refine ru_iadd hX dX4_load_46 (fun _ => ?_)
    obtain ⟨k4, h⟩ := h
    refine ru_iaload hX dX4_load_47 ⟨by decide, by decide⟩ rfl k4 (fun _ => ?_)
    obtain ⟨k5, h⟩ := h
    refine ru_iastore hX dX4_load_48 ⟨by decide, by decide⟩ rfl k5 (hok.2 _ _ _ (by decide) (by decide) (by decide) (by decide)) (fun _ => ?_)
    refine ru_aload_n hX dX4_load_49 rfl (fun hok6 => ?_)
    refine ru_get (v := .inr (some (541, 0))) hX dX4_load_50 rfl ⟨by decide, by decide⟩ rfl (fun _ => ?_)
    refine ru_iload hX dX4_load_53 rfl (fun _ => ?_)
    refine ru_aload_n hX dX4_load_55 rfl (fun _ => ?_)
    refine ru_get (v := .inr (some (533, 0))) hX dX4_load_56 rfl ⟨by decide, by decide⟩ rfl (fun _ => ?_)
    refine ru_bipush hX dX4_load_59 (by decide) (fun _ => ?_)
    refine ru_iload_n hX dX4_load_61 rfl (fun _ => ?_)
    refine ru_imul hX dX4_load_62 (fun _ => ?_)
    refine ru_iload hX dX4_load_63 rfl (fun _ => ?_)
    refine ru_iadd hX dX4_load_65 (fun _ => ?_)
    refine ru_iaload hX dX4_load_66 ⟨by decide, by decide⟩ rfl k4 (fun _ => ?_)
    refine ru_iastore hX dX4_load_67 ⟨by decide, by decide⟩ rfl k5 (hok.2 _ _ _ (by decide) (by decide) (by decide) (by decide)) (fun _ => ?_)
    refine ru_iinc (ls1 := [some (.inr (some (4, 0))), o1, o2, some (.inl a3), some (.inl (a4 + 1))]) hX dX4_load_68 rfl rfl (fun hok7 => ?_)
    refine ru_goto (tgt := 21) hX dX4_load_71 (by decide) ?_
    exact h
theorem bX4_store_0 {cs ss : Nat → Option (Nat × eh_T)} {lim : Nat × Nat} {Rt : Option eh_V → eh_S → Prop} {X : eh_X} (hX : eh_Ru eh_nX eh_fl4 eh_kn4 cs ss lim Rt 2 cX4_store X)  {σ : eh_S}  {a1 : Int} {a2 : Int} {a3 : Int} {o4 : Option eh_V} {o5 : Option eh_V}  (h : eh_ok σ → (0 ≤ (201 * a1) + a2 ∧ (201 * a1) + a2 < 1608) ∧ (a3 = 0 ∨ a3 = 1) ∧ X 31 [some (.inr (some (4, 0))), some (.inl a1), some (.inl a2), some (.inl a3), some (.inl ((201 * a1) + a2)), some (.inl 0)] [] (eh_sA (eh_sA σ 530 0 ((201 * a1) + a2) (σ.1 542 0)) 531 0 ((201 * a1) + a2) a3) (0, 0)) : X 0 [some (.inr (some (4, 0))), some (.inl a1), some (.inl a2), some (.inl a3), o4, o5] [] σ (0, 0) := by
  refine ru_ok hX (fun hok => ?_)
  replace h := h hok
  refine ru_sipush hX dX4_store_0 (by decide) (fun _ => ?_)
  refine ru_iload_n hX dX4_store_3 rfl (fun _ => ?_)
  refine ru_imul hX dX4_store_4 (fun _ => ?_)
  refine ru_iload_n hX dX4_store_5 rfl (fun _ => ?_)
  refine ru_iadd hX dX4_store_6 (fun _ => ?_)
  refine ru_istore (ls1 := [some (.inr (some (4, 0))), some (.inl a1), some (.inl a2), some (.inl a3), some (.inl ((201 * a1) + a2)), o5]) hX dX4_store_7 (Nat.le_of_ble_eq_true rfl) rfl (fun _ => ?_)
  refine ru_aload_n hX dX4_store_9 rfl (fun _ => ?_)
  refine ru_get (v := .inr (some (530, 0))) hX dX4_store_10 rfl ⟨by decide, by decide⟩ rfl (fun _ => ?_)
  refine ru_iload hX dX4_store_13 rfl (fun _ => ?_)
  refine ru_aload_n hX dX4_store_15 rfl (fun _ => ?_)
  refine ru_get (v := .inl (σ.1 542 0)) hX dX4_store_16 rfl ⟨by decide, by decide⟩ rfl (fun _ => ?_)
  obtain ⟨k1, h⟩ := h
  refine ru_iastore hX dX4_store_19 ⟨by decide, by decide⟩ rfl k1 (hok.1 _ _) (fun _ => ?_)
  refine ru_aload_n hX dX4_store_20 rfl (fun hok2 => ?_)
  refine ru_get (v := .inr (some (531, 0))) hX dX4_store_21 rfl ⟨by decide, by decide⟩ rfl (fun _ => ?_)
  refine ru_iload hX dX4_store_24 rfl (fun _ => ?_)
  refine ru_iload_n hX dX4_store_26 rfl (fun _ => ?_)
  obtain ⟨k3, h⟩ := h
  refine ru_zastore hX dX4_store_27 (by decide) ⟨by decide, by decide⟩ rfl k1 k3 (fun _ => ?_)
  refine ru_iconst hX dX4_store_28 (fun hok4 => ?_)
  refine ru_istore (ls1 := [some (.inr (some (4, 0))), some (.inl a1), some (.inl a2), some (.inl a3), some (.inl ((201 * a1) + a2)), some (.inl 0)]) hX dX4_store_29 (Nat.le_of_ble_eq_true rfl) rfl (fun _ => ?_)
  exact h
theorem bX4_store_31 {cs ss : Nat → Option (Nat × eh_T)} {lim : Nat × Nat} {Rt : Option eh_V → eh_S → Prop} {X : eh_X} (hX : eh_Ru eh_nX eh_fl4 eh_kn4 cs ss lim Rt 2 cX4_store X)  {σ : eh_S}  {o1 : Option eh_V} {o2 : Option eh_V} {o3 : Option eh_V} {a4 : Int} {a5 : Int}  (h : eh_ok σ → (-2147483648 ≤ a5 ∧ a5 < 2147483648) ∧ ((σ.1 542 0 ≤ a5 → Rt none σ) ∧ (¬ σ.1 542 0 ≤ a5 → (0 ≤ a5 ∧ a5 < 25) ∧ (0 ≤ (24 * a4) + a5 ∧ (24 * a4) + a5 < 38592) ∧ X 31 [some (.inr (some (4, 0))), o1, o2, o3, some (.inl a4), some (.inl (a5 + 1))] [] (eh_sA (eh_sA σ 532 0 ((24 * a4) + a5) (σ.2 540 0 a5)) 533 0 ((24 * a4) + a5) (σ.2 541 0 a5)) (0, 0)))) : X 31 [some (.inr (some (4, 0))), o1, o2, o3, some (.inl a4), some (.inl a5)] [] σ (0, 0) := by
  refine ru_ok hX (fun hok => ?_)
  replace h := h hok
  refine ru_iload hX dX4_store_31 rfl (fun _ => ?_)
  refine ru_aload_n hX dX4_store_33 rfl (fun _ => ?_)
  refine ru_get (v := .inl (σ.1 542 0)) hX dX4_store_34 rfl ⟨by decide, by decide⟩ rfl (fun _ => ?_)
  obtain ⟨k1, h⟩ := h
  refine ru_icmp_ge (tgt := 86) hX dX4_store_37 (by decide) k1 (hok.1 _ _) (fun q => ?_) (fun q => ?_)
  · have q2 := q
    replace h := h.1 q2
    exact ru_return hX dX4_store_86 rfl ⟨Nat.zero_le _, Nat.zero_le _⟩ (fun _ => h)
  · have q3 := q
    replace h := h.2 q3
    refine ru_aload_n hX dX4_store_40 rfl (fun _ => ?_)
    refine ru_get (v := .inr (some (532, 0))) hX dX4_store_41 rfl ⟨by decide, by decide⟩ rfl (fun _ => ?_)
    refine ru_bipush hX dX4_store_44 (by decide) (fun _ => ?_)
    refine ru_iload hX dX4_store_46 rfl (fun _ => ?_)
    refine ru_imul hX dX4_store_48 (fun _ => ?_)
    refine ru_iload hX dX4_store_49 rfl (fun _ => ?_)
    refine ru_iadd hX dX4_store_51 (fun _ => ?_)
    refine ru_aload_n hX dX4_store_52 rfl (fun _ => ?_)
    refine ru_get (v := .inr (some (540, 0))) hX dX4_store_53 rfl ⟨by decide, by decide⟩ rfl (fun _ => ?_)
    refine ru_iload hX dX4_store_56 rfl (fun _ => ?_)
    obtain ⟨k4, h⟩ := h
    refine ru_iaload hX dX4_store_58 ⟨by decide, by decide⟩ rfl k4 (fun _ => ?_)
    obtain ⟨k5, h⟩ := h
    refine ru_iastore hX dX4_store_59 ⟨by decide, by decide⟩ rfl k5 (hok.2 _ _ _ (by decide) (by decide) (by decide) (by decide)) (fun _ => ?_)
    refine ru_aload_n hX dX4_store_60 rfl (fun hok6 => ?_)
    refine ru_get (v := .inr (some (533, 0))) hX dX4_store_61 rfl ⟨by decide, by decide⟩ rfl (fun _ => ?_)
    refine ru_bipush hX dX4_store_64 (by decide) (fun _ => ?_)
    refine ru_iload hX dX4_store_66 rfl (fun _ => ?_)
    refine ru_imul hX dX4_store_68 (fun _ => ?_)
    refine ru_iload hX dX4_store_69 rfl (fun _ => ?_)
    refine ru_iadd hX dX4_store_71 (fun _ => ?_)
    refine ru_aload_n hX dX4_store_72 rfl (fun _ => ?_)
    refine ru_get (v := .inr (some (541, 0))) hX dX4_store_73 rfl ⟨by decide, by decide⟩ rfl (fun _ => ?_)
    refine ru_iload hX dX4_store_76 rfl (fun _ => ?_)
    refine ru_iaload hX dX4_store_78 ⟨by decide, by decide⟩ rfl k4 (fun _ => ?_)
    refine ru_iastore hX dX4_store_79 ⟨by decide, by decide⟩ rfl k5 (hok.2 _ _ _ (by decide) (by decide) (by decide) (by decide)) (fun _ => ?_)
    refine ru_iinc (ls1 := [some (.inr (some (4, 0))), o1, o2, o3, some (.inl a4), some (.inl (a5 + 1))]) hX dX4_store_80 rfl rfl (fun hok7 => ?_)
    refine ru_goto (tgt := 31) hX dX4_store_83 (by decide) ?_
    exact h
theorem bX4_asks_0 {cs ss : Nat → Option (Nat × eh_T)} {lim : Nat × Nat} {Rt : Option eh_V → eh_S → Prop} {X : eh_X} (hX : eh_Ru eh_nX eh_fl4 eh_kn4 cs ss lim Rt 1 cX4_asks X) {T181 : eh_T} (hc181 : cs 181 = some (3, T181)) {σ : eh_S}  {a1 : Int} {a2 : Int} {a3 : Int} {o4 : Option eh_V} {o5 : Option eh_V} {o6 : Option eh_V} {o7 : Option eh_V}  (h : eh_ok σ → T181 [.inr (some (4, 0)), .inl a1, .inl a2] σ (0, 0) (fun r σ1 => X 6 [some (.inr (some (4, 0))), some (.inl a1), some (.inl a2), some (.inl a3), o4, o5, o6, o7] (r.toList ++ []) σ1 (0, 0))) : X 0 [some (.inr (some (4, 0))), some (.inl a1), some (.inl a2), some (.inl a3), o4, o5, o6, o7] [] σ (0, 0) := by
  refine ru_ok hX (fun hok => ?_)
  replace h := h hok
  refine ru_aload_n hX dX4_asks_0 rfl (fun _ => ?_)
  refine ru_iload_n hX dX4_asks_1 rfl (fun _ => ?_)
  refine ru_iload_n hX dX4_asks_2 rfl (fun _ => ?_)
  exact ru_callV (as := [.inr (some (4, 0)), .inl a1, .inl a2]) (rest := []) hX dX4_asks_3 hc181 rfl (Nat.le_of_ble_eq_true rfl) (0, 0) ⟨Nat.zero_le _, Nat.zero_le _⟩ h
theorem bX4_asks_6 {cs ss : Nat → Option (Nat × eh_T)} {lim : Nat × Nat} {Rt : Option eh_V → eh_S → Prop} {X : eh_X} (hX : eh_Ru eh_nX eh_fl4 eh_kn4 cs ss lim Rt 1 cX4_asks X) {T185 : eh_T} (hc185 : cs 185 = some (4, T185)) {σ : eh_S}  {a1 : Int} {a2 : Int} {a3 : Int} {o4 : Option eh_V} {o5 : Option eh_V} {o6 : Option eh_V} {o7 : Option eh_V}  (h : eh_ok σ → (0 ≤ a1 ∧ a1 < 8) ∧ ((σ.2 518 0 a1 < 0 → (0 ≤ (201 * a1) + a2 ∧ (201 * a1) + a2 < 1608) ∧ T185 [.inr (some (4, 0)), .inl a1, .inl a3, .inl (σ.2 531 0 ((201 * a1) + a2))] σ (0, 0) (fun r σ1 => X 77 [some (.inr (some (4, 0))), some (.inl a1), some (.inl a2), some (.inl a3), some (.inl (σ.2 531 0 ((201 * a1) + a2))), o5, o6, o7] (r.toList ++ []) σ1 (0, 0))) ∧ (¬ σ.2 518 0 a1 < 0 → (0 ≤ (4 * (σ.2 540 0 0)) + (σ.2 518 0 a1) ∧ (4 * (σ.2 540 0 0)) + (σ.2 518 0 a1) < 4000) ∧ (0 ≤ (4 * a3) + (σ.2 518 0 a1) ∧ (4 * a3) + (σ.2 518 0 a1) < 4000) ∧ ((σ.2 512 0 ((4 * (σ.2 540 0 0)) + (σ.2 518 0 a1)) = σ.2 512 0 ((4 * a3) + (σ.2 518 0 a1)) → (0 ≤ (201 * a1) + a2 ∧ (201 * a1) + a2 < 1608) ∧ T185 [.inr (some (4, 0)), .inl a1, .inl a3, .inl (σ.2 531 0 ((201 * a1) + a2))] σ (0, 0) (fun r σ1 => X 77 [some (.inr (some (4, 0))), some (.inl a1), some (.inl a2), some (.inl a3), some (.inl (σ.2 531 0 ((201 * a1) + a2))), o5, o6, o7] (r.toList ++ []) σ1 (0, 0))) ∧ (¬ σ.2 512 0 ((4 * (σ.2 540 0 0)) + (σ.2 518 0 a1)) = σ.2 512 0 ((4 * a3) + (σ.2 518 0 a1)) → Rt (some (.inl 1)) σ))))) : X 6 [some (.inr (some (4, 0))), some (.inl a1), some (.inl a2), some (.inl a3), o4, o5, o6, o7] [] σ (0, 0) := by
  refine ru_ok hX (fun hok => ?_)
  replace h := h hok
  refine ru_aload_n hX dX4_asks_6 rfl (fun _ => ?_)
  refine ru_get (v := .inr (some (518, 0))) hX dX4_asks_7 rfl ⟨by decide, by decide⟩ rfl (fun _ => ?_)
  refine ru_iload_n hX dX4_asks_10 rfl (fun _ => ?_)
  obtain ⟨k1, h⟩ := h
  refine ru_iaload hX dX4_asks_11 ⟨by decide, by decide⟩ rfl k1 (fun _ => ?_)
  refine ru_if_lt (tgt := 55) hX dX4_asks_12 (by decide) (hok.2 _ _ _ (by decide) (by decide) (by decide) (by decide)) (fun q => ?_) (fun q => ?_)
  · have q2 := q
    replace h := h.1 q2
    refine ru_aload_n hX dX4_asks_55 rfl (fun _ => ?_)
    refine ru_get (v := .inr (some (531, 0))) hX dX4_asks_56 rfl ⟨by decide, by decide⟩ rfl (fun _ => ?_)
    refine ru_sipush hX dX4_asks_59 (by decide) (fun _ => ?_)
    refine ru_iload_n hX dX4_asks_62 rfl (fun _ => ?_)
    refine ru_imul hX dX4_asks_63 (fun _ => ?_)
    refine ru_iload_n hX dX4_asks_64 rfl (fun _ => ?_)
    refine ru_iadd hX dX4_asks_65 (fun _ => ?_)
    obtain ⟨k3, h⟩ := h
    refine ru_zaload hX dX4_asks_66 (by decide) ⟨by decide, by decide⟩ rfl k3 (fun _ => ?_)
    refine ru_istore (ls1 := [some (.inr (some (4, 0))), some (.inl a1), some (.inl a2), some (.inl a3), some (.inl (σ.2 531 0 ((201 * a1) + a2))), o5, o6, o7]) hX dX4_asks_67 (Nat.le_of_ble_eq_true rfl) rfl (fun _ => ?_)
    refine ru_aload_n hX dX4_asks_69 rfl (fun _ => ?_)
    refine ru_iload_n hX dX4_asks_70 rfl (fun _ => ?_)
    refine ru_iload_n hX dX4_asks_71 rfl (fun _ => ?_)
    refine ru_iload hX dX4_asks_72 rfl (fun _ => ?_)
    exact ru_callV (as := [.inr (some (4, 0)), .inl a1, .inl a3, .inl (σ.2 531 0 ((201 * a1) + a2))]) (rest := []) hX dX4_asks_74 hc185 rfl (Nat.le_of_ble_eq_true rfl) (0, 0) ⟨Nat.zero_le _, Nat.zero_le _⟩ h
  · have q4 := q
    replace h := h.2 q4
    refine ru_aload_n hX dX4_asks_15 rfl (fun _ => ?_)
    refine ru_get (v := .inr (some (512, 0))) hX dX4_asks_16 rfl ⟨by decide, by decide⟩ rfl (fun _ => ?_)
    refine ru_iconst hX dX4_asks_19 (fun _ => ?_)
    refine ru_aload_n hX dX4_asks_20 rfl (fun _ => ?_)
    refine ru_get (v := .inr (some (540, 0))) hX dX4_asks_21 rfl ⟨by decide, by decide⟩ rfl (fun _ => ?_)
    refine ru_iconst hX dX4_asks_24 (fun _ => ?_)
    refine ru_iaload hX dX4_asks_25 ⟨by decide, by decide⟩ rfl ⟨by decide, by decide⟩ (fun _ => ?_)
    refine ru_imul hX dX4_asks_26 (fun _ => ?_)
    refine ru_aload_n hX dX4_asks_27 rfl (fun _ => ?_)
    refine ru_get (v := .inr (some (518, 0))) hX dX4_asks_28 rfl ⟨by decide, by decide⟩ rfl (fun _ => ?_)
    refine ru_iload_n hX dX4_asks_31 rfl (fun _ => ?_)
    refine ru_iaload hX dX4_asks_32 ⟨by decide, by decide⟩ rfl k1 (fun _ => ?_)
    refine ru_iadd hX dX4_asks_33 (fun _ => ?_)
    obtain ⟨k5, h⟩ := h
    refine ru_iaload hX dX4_asks_34 ⟨by decide, by decide⟩ rfl k5 (fun _ => ?_)
    refine ru_aload_n hX dX4_asks_35 rfl (fun _ => ?_)
    refine ru_get (v := .inr (some (512, 0))) hX dX4_asks_36 rfl ⟨by decide, by decide⟩ rfl (fun _ => ?_)
    refine ru_iconst hX dX4_asks_39 (fun _ => ?_)
    refine ru_iload_n hX dX4_asks_40 rfl (fun _ => ?_)
    refine ru_imul hX dX4_asks_41 (fun _ => ?_)
    refine ru_aload_n hX dX4_asks_42 rfl (fun _ => ?_)
    refine ru_get (v := .inr (some (518, 0))) hX dX4_asks_43 rfl ⟨by decide, by decide⟩ rfl (fun _ => ?_)
    refine ru_iload_n hX dX4_asks_46 rfl (fun _ => ?_)
    refine ru_iaload hX dX4_asks_47 ⟨by decide, by decide⟩ rfl k1 (fun _ => ?_)
    refine ru_iadd hX dX4_asks_48 (fun _ => ?_)
    obtain ⟨k6, h⟩ := h
    refine ru_iaload hX dX4_asks_49 ⟨by decide, by decide⟩ rfl k6 (fun _ => ?_)
    refine ru_icmp_eq (tgt := 55) hX dX4_asks_50 (by decide) (hok.2 _ _ _ (by decide) (by decide) (by decide) (by decide)) (hok.2 _ _ _ (by decide) (by decide) (by decide) (by decide)) (fun q => ?_) (fun q => ?_)
    · have q7 := q
      replace h := h.1 q7
      refine ru_aload_n hX dX4_asks_55 rfl (fun _ => ?_)
      refine ru_get (v := .inr (some (531, 0))) hX dX4_asks_56 rfl ⟨by decide, by decide⟩ rfl (fun _ => ?_)
      refine ru_sipush hX dX4_asks_59 (by decide) (fun _ => ?_)
      refine ru_iload_n hX dX4_asks_62 rfl (fun _ => ?_)
      refine ru_imul hX dX4_asks_63 (fun _ => ?_)
      refine ru_iload_n hX dX4_asks_64 rfl (fun _ => ?_)
      refine ru_iadd hX dX4_asks_65 (fun _ => ?_)
      obtain ⟨k8, h⟩ := h
      refine ru_zaload hX dX4_asks_66 (by decide) ⟨by decide, by decide⟩ rfl k8 (fun _ => ?_)
      refine ru_istore (ls1 := [some (.inr (some (4, 0))), some (.inl a1), some (.inl a2), some (.inl a3), some (.inl (σ.2 531 0 ((201 * a1) + a2))), o5, o6, o7]) hX dX4_asks_67 (Nat.le_of_ble_eq_true rfl) rfl (fun _ => ?_)
      refine ru_aload_n hX dX4_asks_69 rfl (fun _ => ?_)
      refine ru_iload_n hX dX4_asks_70 rfl (fun _ => ?_)
      refine ru_iload_n hX dX4_asks_71 rfl (fun _ => ?_)
      refine ru_iload hX dX4_asks_72 rfl (fun _ => ?_)
      exact ru_callV (as := [.inr (some (4, 0)), .inl a1, .inl a3, .inl (σ.2 531 0 ((201 * a1) + a2))]) (rest := []) hX dX4_asks_74 hc185 rfl (Nat.le_of_ble_eq_true rfl) (0, 0) ⟨Nat.zero_le _, Nat.zero_le _⟩ h
    · have q9 := q
      replace h := h.2 q9
      refine ru_iconst hX dX4_asks_53 (fun _ => ?_)
      exact ru_ireturn hX dX4_asks_54 (Or.inr ⟨rfl, by decide⟩) ⟨Nat.zero_le _, Nat.zero_le _⟩ (fun _ => h)
theorem bX4_asks_77 {cs ss : Nat → Option (Nat × eh_T)} {lim : Nat × Nat} {Rt : Option eh_V → eh_S → Prop} {X : eh_X} (hX : eh_Ru eh_nX eh_fl4 eh_kn4 cs ss lim Rt 1 cX4_asks X) {T163 : eh_T} (hc163 : cs 163 = some (2, T163)) {σ : eh_S}  {a1 : Int} {a2 : Int} {a3 : Int} {o4 : Option eh_V} {o5 : Option eh_V} {o6 : Option eh_V} {o7 : Option eh_V}  (h : eh_ok σ → (0 ≤ (σ.1 542 0) - 1 ∧ (σ.1 542 0) - 1 < 25) ∧ T163 [.inr (some (4, 0)), .inl a1] σ (0, 0) (fun r σ1 => X 99 [some (.inr (some (4, 0))), some (.inl a1), some (.inl a2), some (.inl a3), o4, some (.inl ((σ.2 541 0 ((σ.1 542 0) - 1)) + 1)), o6, o7] (r.toList ++ [.inl ((σ.2 541 0 ((σ.1 542 0) - 1)) + 1)]) σ1 (0, 0))) : X 77 [some (.inr (some (4, 0))), some (.inl a1), some (.inl a2), some (.inl a3), o4, o5, o6, o7] [] σ (0, 0) := by
  refine ru_ok hX (fun hok => ?_)
  replace h := h hok
  refine ru_aload_n hX dX4_asks_77 rfl (fun _ => ?_)
  refine ru_get (v := .inr (some (541, 0))) hX dX4_asks_78 rfl ⟨by decide, by decide⟩ rfl (fun _ => ?_)
  refine ru_aload_n hX dX4_asks_81 rfl (fun _ => ?_)
  refine ru_get (v := .inl (σ.1 542 0)) hX dX4_asks_82 rfl ⟨by decide, by decide⟩ rfl (fun _ => ?_)
  refine ru_iconst hX dX4_asks_85 (fun _ => ?_)
  refine ru_isub hX dX4_asks_86 (fun _ => ?_)
  obtain ⟨k1, h⟩ := h
  refine ru_iaload hX dX4_asks_87 ⟨by decide, by decide⟩ rfl k1 (fun _ => ?_)
  refine ru_iconst hX dX4_asks_88 (fun _ => ?_)
  refine ru_iadd hX dX4_asks_89 (fun _ => ?_)
  refine ru_istore (ls1 := [some (.inr (some (4, 0))), some (.inl a1), some (.inl a2), some (.inl a3), o4, some (.inl ((σ.2 541 0 ((σ.1 542 0) - 1)) + 1)), o6, o7]) hX dX4_asks_90 (Nat.le_of_ble_eq_true rfl) rfl (fun _ => ?_)
  refine ru_iload hX dX4_asks_92 rfl (fun _ => ?_)
  refine ru_aload_n hX dX4_asks_94 rfl (fun _ => ?_)
  refine ru_iload_n hX dX4_asks_95 rfl (fun _ => ?_)
  exact ru_callV (as := [.inr (some (4, 0)), .inl a1]) (rest := [.inl ((σ.2 541 0 ((σ.1 542 0) - 1)) + 1)]) hX dX4_asks_96 hc163 rfl (Nat.le_of_ble_eq_true rfl) (0, 0) ⟨Nat.zero_le _, Nat.zero_le _⟩ h
theorem bX4_asks_99 {cs ss : Nat → Option (Nat × eh_T)} {lim : Nat × Nat} {Rt : Option eh_V → eh_S → Prop} {X : eh_X} (hX : eh_Ru eh_nX eh_fl4 eh_kn4 cs ss lim Rt 1 cX4_asks X) {T173 : eh_T} (hc173 : cs 173 = some (4, T173)) {T188 : eh_T} (hc188 : cs 188 = some (3, T188)) {σ : eh_S}  {a1 : Int} {a2 : Int} {a3 : Int} {o4 : Option eh_V} {a5 : Int} {o6 : Option eh_V} {o7 : Option eh_V} {s0 : Int} {s1 : Int}  (h : eh_ok σ → (-2147483648 ≤ s1 ∧ s1 < 2147483648) ∧ (-2147483648 ≤ s0 ∧ s0 < 2147483648) ∧ ((s0 ≤ s1 → (0 ≤ a1 ∧ a1 < 8) ∧ ((σ.2 517 0 a1 = 1 → ((σ.1 544 0 ≤ 0 → Rt (some (.inl 1)) σ) ∧ (¬ σ.1 544 0 ≤ 0 → T188 [.inr (some (4, 0)), .inl a3, .inl (σ.2 543 0 0)] σ (0, 0) (fun r σ1 => X 164 [some (.inr (some (4, 0))), some (.inl a1), some (.inl a2), some (.inl a3), o4, some (.inl a5), some (.inl 0), o7] (r.toList ++ []) σ1 (0, 0))))) ∧ (¬ σ.2 517 0 a1 = 1 → X 217 [some (.inr (some (4, 0))), some (.inl a1), some (.inl a2), some (.inl a3), o4, some (.inl a5), some (.inl 0), some (.inl 0)] [] σ (0, 0)))) ∧ (¬ s0 ≤ s1 → (0 ≤ (6 * a1) + a5 ∧ (6 * a1) + a5 < 48) ∧ ((σ.2 524 0 ((6 * a1) + a5) = 3 → T173 [.inr (some (4, 0)), .inl a1, .inl a5, .inl a3] σ (0, 0) (fun r σ1 => X 126 [some (.inr (some (4, 0))), some (.inl a1), some (.inl a2), some (.inl a3), o4, some (.inl a5), o6, o7] (r.toList ++ []) σ1 (0, 0))) ∧ (¬ σ.2 524 0 ((6 * a1) + a5) = 3 → (0 ≤ a1 ∧ a1 < 8) ∧ ((σ.2 517 0 a1 = 1 → ((σ.1 544 0 ≤ 0 → Rt (some (.inl 1)) σ) ∧ (¬ σ.1 544 0 ≤ 0 → T188 [.inr (some (4, 0)), .inl a3, .inl (σ.2 543 0 0)] σ (0, 0) (fun r σ1 => X 164 [some (.inr (some (4, 0))), some (.inl a1), some (.inl a2), some (.inl a3), o4, some (.inl a5), some (.inl 0), o7] (r.toList ++ []) σ1 (0, 0))))) ∧ (¬ σ.2 517 0 a1 = 1 → X 217 [some (.inr (some (4, 0))), some (.inl a1), some (.inl a2), some (.inl a3), o4, some (.inl a5), some (.inl 0), some (.inl 0)] [] σ (0, 0)))))))) : X 99 [some (.inr (some (4, 0))), some (.inl a1), some (.inl a2), some (.inl a3), o4, some (.inl a5), o6, o7] [.inl s0, .inl s1] σ (0, 0) := by
  refine ru_ok hX (fun hok => ?_)
  replace h := h hok
  obtain ⟨k1, h⟩ := h
  obtain ⟨k2, h⟩ := h
  refine ru_icmp_ge (tgt := 133) hX dX4_asks_99 (by decide) k1 k2 (fun q => ?_) (fun q => ?_)
  · have q3 := q
    replace h := h.1 q3
    refine ru_iconst hX dX4_asks_133 (fun _ => ?_)
    refine ru_istore (ls1 := [some (.inr (some (4, 0))), some (.inl a1), some (.inl a2), some (.inl a3), o4, some (.inl a5), some (.inl 0), o7]) hX dX4_asks_134 (Nat.le_of_ble_eq_true rfl) rfl (fun _ => ?_)
    refine ru_aload_n hX dX4_asks_136 rfl (fun _ => ?_)
    refine ru_get (v := .inr (some (517, 0))) hX dX4_asks_137 rfl ⟨by decide, by decide⟩ rfl (fun _ => ?_)
    refine ru_iload_n hX dX4_asks_140 rfl (fun _ => ?_)
    obtain ⟨k4, h⟩ := h
    refine ru_iaload hX dX4_asks_141 ⟨by decide, by decide⟩ rfl k4 (fun _ => ?_)
    refine ru_iconst hX dX4_asks_142 (fun _ => ?_)
    refine ru_icmp_ne (tgt := 214) hX dX4_asks_143 (by decide) (hok.2 _ _ _ (by decide) (by decide) (by decide) (by decide)) (by unfold eh_r; decide) (fun q => ?_) (fun q => ?_)
    · have q5 := q
      replace h := h.2 q5
      refine ru_iconst hX dX4_asks_214 (fun _ => ?_)
      refine ru_istore (ls1 := [some (.inr (some (4, 0))), some (.inl a1), some (.inl a2), some (.inl a3), o4, some (.inl a5), some (.inl 0), some (.inl 0)]) hX dX4_asks_215 (Nat.le_of_ble_eq_true rfl) rfl (fun _ => ?_)
      exact h
    · have q6 := q
      replace h := h.1 q6
      refine ru_aload_n hX dX4_asks_146 rfl (fun _ => ?_)
      refine ru_get (v := .inl (σ.1 544 0)) hX dX4_asks_147 rfl ⟨by decide, by decide⟩ rfl (fun _ => ?_)
      refine ru_if_le (tgt := 194) hX dX4_asks_150 (by decide) (hok.1 _ _) (fun q => ?_) (fun q => ?_)
      · have q7 := q
        replace h := h.1 q7
        refine ru_iload hX dX4_asks_194 rfl (fun _ => ?_)
        refine ru_if_eq (tgt := 212) hX dX4_asks_196 (by decide) (by unfold eh_r; decide) (fun q => ?_) (fun q => ?_)
        rotate_left
        · exact absurd q (by decide)
        clear q
        refine ru_iconst hX dX4_asks_212 (fun _ => ?_)
        exact ru_ireturn hX dX4_asks_213 (Or.inr ⟨rfl, by decide⟩) ⟨Nat.zero_le _, Nat.zero_le _⟩ (fun _ => h)
      · have q8 := q
        replace h := h.2 q8
        refine ru_aload_n hX dX4_asks_153 rfl (fun _ => ?_)
        refine ru_iload_n hX dX4_asks_154 rfl (fun _ => ?_)
        refine ru_aload_n hX dX4_asks_155 rfl (fun _ => ?_)
        refine ru_get (v := .inr (some (543, 0))) hX dX4_asks_156 rfl ⟨by decide, by decide⟩ rfl (fun _ => ?_)
        refine ru_iconst hX dX4_asks_159 (fun _ => ?_)
        refine ru_iaload hX dX4_asks_160 ⟨by decide, by decide⟩ rfl ⟨by decide, by decide⟩ (fun _ => ?_)
        exact ru_callV (as := [.inr (some (4, 0)), .inl a3, .inl (σ.2 543 0 0)]) (rest := []) hX dX4_asks_161 hc188 rfl (Nat.le_of_ble_eq_true rfl) (0, 0) ⟨Nat.zero_le _, Nat.zero_le _⟩ h
  · have q9 := q
    replace h := h.2 q9
    refine ru_aload_n hX dX4_asks_102 rfl (fun _ => ?_)
    refine ru_get (v := .inr (some (524, 0))) hX dX4_asks_103 rfl ⟨by decide, by decide⟩ rfl (fun _ => ?_)
    refine ru_bipush hX dX4_asks_106 (by decide) (fun _ => ?_)
    refine ru_iload_n hX dX4_asks_108 rfl (fun _ => ?_)
    refine ru_imul hX dX4_asks_109 (fun _ => ?_)
    refine ru_iload hX dX4_asks_110 rfl (fun _ => ?_)
    refine ru_iadd hX dX4_asks_112 (fun _ => ?_)
    obtain ⟨k10, h⟩ := h
    refine ru_iaload hX dX4_asks_113 ⟨by decide, by decide⟩ rfl k10 (fun _ => ?_)
    refine ru_iconst hX dX4_asks_114 (fun _ => ?_)
    refine ru_icmp_ne (tgt := 133) hX dX4_asks_115 (by decide) (hok.2 _ _ _ (by decide) (by decide) (by decide) (by decide)) (by unfold eh_r; decide) (fun q => ?_) (fun q => ?_)
    · have q11 := q
      replace h := h.2 q11
      refine ru_iconst hX dX4_asks_133 (fun _ => ?_)
      refine ru_istore (ls1 := [some (.inr (some (4, 0))), some (.inl a1), some (.inl a2), some (.inl a3), o4, some (.inl a5), some (.inl 0), o7]) hX dX4_asks_134 (Nat.le_of_ble_eq_true rfl) rfl (fun _ => ?_)
      refine ru_aload_n hX dX4_asks_136 rfl (fun _ => ?_)
      refine ru_get (v := .inr (some (517, 0))) hX dX4_asks_137 rfl ⟨by decide, by decide⟩ rfl (fun _ => ?_)
      refine ru_iload_n hX dX4_asks_140 rfl (fun _ => ?_)
      obtain ⟨k12, h⟩ := h
      refine ru_iaload hX dX4_asks_141 ⟨by decide, by decide⟩ rfl k12 (fun _ => ?_)
      refine ru_iconst hX dX4_asks_142 (fun _ => ?_)
      refine ru_icmp_ne (tgt := 214) hX dX4_asks_143 (by decide) (hok.2 _ _ _ (by decide) (by decide) (by decide) (by decide)) (by unfold eh_r; decide) (fun q => ?_) (fun q => ?_)
      · have q13 := q
        replace h := h.2 q13
        refine ru_iconst hX dX4_asks_214 (fun _ => ?_)
        refine ru_istore (ls1 := [some (.inr (some (4, 0))), some (.inl a1), some (.inl a2), some (.inl a3), o4, some (.inl a5), some (.inl 0), some (.inl 0)]) hX dX4_asks_215 (Nat.le_of_ble_eq_true rfl) rfl (fun _ => ?_)
        exact h
      · have q14 := q
        replace h := h.1 q14
        refine ru_aload_n hX dX4_asks_146 rfl (fun _ => ?_)
        refine ru_get (v := .inl (σ.1 544 0)) hX dX4_asks_147 rfl ⟨by decide, by decide⟩ rfl (fun _ => ?_)
        refine ru_if_le (tgt := 194) hX dX4_asks_150 (by decide) (hok.1 _ _) (fun q => ?_) (fun q => ?_)
        · have q15 := q
          replace h := h.1 q15
          refine ru_iload hX dX4_asks_194 rfl (fun _ => ?_)
          refine ru_if_eq (tgt := 212) hX dX4_asks_196 (by decide) (by unfold eh_r; decide) (fun q => ?_) (fun q => ?_)
          rotate_left
          · exact absurd q (by decide)
          clear q
          refine ru_iconst hX dX4_asks_212 (fun _ => ?_)
          exact ru_ireturn hX dX4_asks_213 (Or.inr ⟨rfl, by decide⟩) ⟨Nat.zero_le _, Nat.zero_le _⟩ (fun _ => h)
        · have q16 := q
          replace h := h.2 q16
          refine ru_aload_n hX dX4_asks_153 rfl (fun _ => ?_)
          refine ru_iload_n hX dX4_asks_154 rfl (fun _ => ?_)
          refine ru_aload_n hX dX4_asks_155 rfl (fun _ => ?_)
          refine ru_get (v := .inr (some (543, 0))) hX dX4_asks_156 rfl ⟨by decide, by decide⟩ rfl (fun _ => ?_)
          refine ru_iconst hX dX4_asks_159 (fun _ => ?_)
          refine ru_iaload hX dX4_asks_160 ⟨by decide, by decide⟩ rfl ⟨by decide, by decide⟩ (fun _ => ?_)
          exact ru_callV (as := [.inr (some (4, 0)), .inl a3, .inl (σ.2 543 0 0)]) (rest := []) hX dX4_asks_161 hc188 rfl (Nat.le_of_ble_eq_true rfl) (0, 0) ⟨Nat.zero_le _, Nat.zero_le _⟩ h
    · have q17 := q
      replace h := h.1 q17
      refine ru_aload_n hX dX4_asks_118 rfl (fun _ => ?_)
      refine ru_iload_n hX dX4_asks_119 rfl (fun _ => ?_)
      refine ru_iload hX dX4_asks_120 rfl (fun _ => ?_)
      refine ru_iload_n hX dX4_asks_122 rfl (fun _ => ?_)
      exact ru_callV (as := [.inr (some (4, 0)), .inl a1, .inl a5, .inl a3]) (rest := []) hX dX4_asks_123 hc173 rfl (Nat.le_of_ble_eq_true rfl) (0, 0) ⟨Nat.zero_le _, Nat.zero_le _⟩ h
theorem bX4_asks_126 {cs ss : Nat → Option (Nat × eh_T)} {lim : Nat × Nat} {Rt : Option eh_V → eh_S → Prop} {X : eh_X} (hX : eh_Ru eh_nX eh_fl4 eh_kn4 cs ss lim Rt 1 cX4_asks X) {T188 : eh_T} (hc188 : cs 188 = some (3, T188)) {σ : eh_S}  {a1 : Int} {a2 : Int} {a3 : Int} {o4 : Option eh_V} {o5 : Option eh_V} {o6 : Option eh_V} {o7 : Option eh_V} {s0 : Int}  (h : eh_ok σ → (-2147483648 ≤ s0 ∧ s0 < 2147483648) ∧ ((s0 = 0 → (0 ≤ a1 ∧ a1 < 8) ∧ ((σ.2 517 0 a1 = 1 → ((σ.1 544 0 ≤ 0 → Rt (some (.inl 1)) σ) ∧ (¬ σ.1 544 0 ≤ 0 → T188 [.inr (some (4, 0)), .inl a3, .inl (σ.2 543 0 0)] σ (0, 0) (fun r σ1 => X 164 [some (.inr (some (4, 0))), some (.inl a1), some (.inl a2), some (.inl a3), o4, o5, some (.inl 0), o7] (r.toList ++ []) σ1 (0, 0))))) ∧ (¬ σ.2 517 0 a1 = 1 → X 217 [some (.inr (some (4, 0))), some (.inl a1), some (.inl a2), some (.inl a3), o4, o5, some (.inl 0), some (.inl 0)] [] σ (0, 0)))) ∧ (¬ s0 = 0 → (0 ≤ a1 ∧ a1 < 8) ∧ ((σ.2 517 0 a1 = 1 → ((σ.1 544 0 ≤ 0 → (0 ≤ (201 * a1) + a2 ∧ (201 * a1) + a2 < 1608) ∧ Rt (some (.inl 1)) (eh_sA σ 531 0 ((201 * a1) + a2) 1)) ∧ (¬ σ.1 544 0 ≤ 0 → T188 [.inr (some (4, 0)), .inl a3, .inl (σ.2 543 0 0)] σ (0, 0) (fun r σ1 => X 164 [some (.inr (some (4, 0))), some (.inl a1), some (.inl a2), some (.inl a3), o4, o5, some (.inl 1), o7] (r.toList ++ []) σ1 (0, 0))))) ∧ (¬ σ.2 517 0 a1 = 1 → X 217 [some (.inr (some (4, 0))), some (.inl a1), some (.inl a2), some (.inl a3), o4, o5, some (.inl 1), some (.inl 0)] [] σ (0, 0)))))) : X 126 [some (.inr (some (4, 0))), some (.inl a1), some (.inl a2), some (.inl a3), o4, o5, o6, o7] [.inl s0] σ (0, 0) := by
  refine ru_ok hX (fun hok => ?_)
  replace h := h hok
  obtain ⟨k1, h⟩ := h
  refine ru_if_eq (tgt := 133) hX dX4_asks_126 (by decide) k1 (fun q => ?_) (fun q => ?_)
  · have q2 := q
    replace h := h.1 q2
    refine ru_iconst hX dX4_asks_133 (fun _ => ?_)
    refine ru_istore (ls1 := [some (.inr (some (4, 0))), some (.inl a1), some (.inl a2), some (.inl a3), o4, o5, some (.inl 0), o7]) hX dX4_asks_134 (Nat.le_of_ble_eq_true rfl) rfl (fun _ => ?_)
    refine ru_aload_n hX dX4_asks_136 rfl (fun _ => ?_)
    refine ru_get (v := .inr (some (517, 0))) hX dX4_asks_137 rfl ⟨by decide, by decide⟩ rfl (fun _ => ?_)
    refine ru_iload_n hX dX4_asks_140 rfl (fun _ => ?_)
    obtain ⟨k3, h⟩ := h
    refine ru_iaload hX dX4_asks_141 ⟨by decide, by decide⟩ rfl k3 (fun _ => ?_)
    refine ru_iconst hX dX4_asks_142 (fun _ => ?_)
    refine ru_icmp_ne (tgt := 214) hX dX4_asks_143 (by decide) (hok.2 _ _ _ (by decide) (by decide) (by decide) (by decide)) (by unfold eh_r; decide) (fun q => ?_) (fun q => ?_)
    · have q4 := q
      replace h := h.2 q4
      refine ru_iconst hX dX4_asks_214 (fun _ => ?_)
      refine ru_istore (ls1 := [some (.inr (some (4, 0))), some (.inl a1), some (.inl a2), some (.inl a3), o4, o5, some (.inl 0), some (.inl 0)]) hX dX4_asks_215 (Nat.le_of_ble_eq_true rfl) rfl (fun _ => ?_)
      exact h
    · have q5 := q
      replace h := h.1 q5
      refine ru_aload_n hX dX4_asks_146 rfl (fun _ => ?_)
      refine ru_get (v := .inl (σ.1 544 0)) hX dX4_asks_147 rfl ⟨by decide, by decide⟩ rfl (fun _ => ?_)
      refine ru_if_le (tgt := 194) hX dX4_asks_150 (by decide) (hok.1 _ _) (fun q => ?_) (fun q => ?_)
      · have q6 := q
        replace h := h.1 q6
        refine ru_iload hX dX4_asks_194 rfl (fun _ => ?_)
        refine ru_if_eq (tgt := 212) hX dX4_asks_196 (by decide) (by unfold eh_r; decide) (fun q => ?_) (fun q => ?_)
        rotate_left
        · exact absurd q (by decide)
        clear q
        refine ru_iconst hX dX4_asks_212 (fun _ => ?_)
        exact ru_ireturn hX dX4_asks_213 (Or.inr ⟨rfl, by decide⟩) ⟨Nat.zero_le _, Nat.zero_le _⟩ (fun _ => h)
      · have q7 := q
        replace h := h.2 q7
        refine ru_aload_n hX dX4_asks_153 rfl (fun _ => ?_)
        refine ru_iload_n hX dX4_asks_154 rfl (fun _ => ?_)
        refine ru_aload_n hX dX4_asks_155 rfl (fun _ => ?_)
        refine ru_get (v := .inr (some (543, 0))) hX dX4_asks_156 rfl ⟨by decide, by decide⟩ rfl (fun _ => ?_)
        refine ru_iconst hX dX4_asks_159 (fun _ => ?_)
        refine ru_iaload hX dX4_asks_160 ⟨by decide, by decide⟩ rfl ⟨by decide, by decide⟩ (fun _ => ?_)
        exact ru_callV (as := [.inr (some (4, 0)), .inl a3, .inl (σ.2 543 0 0)]) (rest := []) hX dX4_asks_161 hc188 rfl (Nat.le_of_ble_eq_true rfl) (0, 0) ⟨Nat.zero_le _, Nat.zero_le _⟩ h
  · have q8 := q
    replace h := h.2 q8
    refine ru_iconst hX dX4_asks_129 (fun _ => ?_)
    refine ru_goto (tgt := 134) hX dX4_asks_130 (by decide) ?_
    refine ru_istore (ls1 := [some (.inr (some (4, 0))), some (.inl a1), some (.inl a2), some (.inl a3), o4, o5, some (.inl 1), o7]) hX dX4_asks_134 (Nat.le_of_ble_eq_true rfl) rfl (fun _ => ?_)
    refine ru_aload_n hX dX4_asks_136 rfl (fun _ => ?_)
    refine ru_get (v := .inr (some (517, 0))) hX dX4_asks_137 rfl ⟨by decide, by decide⟩ rfl (fun _ => ?_)
    refine ru_iload_n hX dX4_asks_140 rfl (fun _ => ?_)
    obtain ⟨k9, h⟩ := h
    refine ru_iaload hX dX4_asks_141 ⟨by decide, by decide⟩ rfl k9 (fun _ => ?_)
    refine ru_iconst hX dX4_asks_142 (fun _ => ?_)
    refine ru_icmp_ne (tgt := 214) hX dX4_asks_143 (by decide) (hok.2 _ _ _ (by decide) (by decide) (by decide) (by decide)) (by unfold eh_r; decide) (fun q => ?_) (fun q => ?_)
    · have q10 := q
      replace h := h.2 q10
      refine ru_iconst hX dX4_asks_214 (fun _ => ?_)
      refine ru_istore (ls1 := [some (.inr (some (4, 0))), some (.inl a1), some (.inl a2), some (.inl a3), o4, o5, some (.inl 1), some (.inl 0)]) hX dX4_asks_215 (Nat.le_of_ble_eq_true rfl) rfl (fun _ => ?_)
      exact h
    · have q11 := q
      replace h := h.1 q11
      refine ru_aload_n hX dX4_asks_146 rfl (fun _ => ?_)
      refine ru_get (v := .inl (σ.1 544 0)) hX dX4_asks_147 rfl ⟨by decide, by decide⟩ rfl (fun _ => ?_)
      refine ru_if_le (tgt := 194) hX dX4_asks_150 (by decide) (hok.1 _ _) (fun q => ?_) (fun q => ?_)
      · have q12 := q
        replace h := h.1 q12
        refine ru_iload hX dX4_asks_194 rfl (fun _ => ?_)
        refine ru_if_eq (tgt := 212) hX dX4_asks_196 (by decide) (by unfold eh_r; decide) (fun q => ?_) (fun q => ?_)
        · exact absurd q (by decide)
        clear q
        refine ru_aload_n hX dX4_asks_199 rfl (fun _ => ?_)
        refine ru_get (v := .inr (some (531, 0))) hX dX4_asks_200 rfl ⟨by decide, by decide⟩ rfl (fun _ => ?_)
        refine ru_sipush hX dX4_asks_203 (by decide) (fun _ => ?_)
        refine ru_iload_n hX dX4_asks_206 rfl (fun _ => ?_)
        refine ru_imul hX dX4_asks_207 (fun _ => ?_)
        refine ru_iload_n hX dX4_asks_208 rfl (fun _ => ?_)
        refine ru_iadd hX dX4_asks_209 (fun _ => ?_)
        refine ru_iconst hX dX4_asks_210 (fun _ => ?_)
        obtain ⟨k13, h⟩ := h
        refine ru_zastore hX dX4_asks_211 (by decide) ⟨by decide, by decide⟩ rfl k13 (by decide) (fun _ => ?_)
        refine ru_iconst hX dX4_asks_212 (fun hok14 => ?_)
        exact ru_ireturn hX dX4_asks_213 (Or.inr ⟨rfl, by decide⟩) ⟨Nat.zero_le _, Nat.zero_le _⟩ (fun _ => h)
      · have q15 := q
        replace h := h.2 q15
        refine ru_aload_n hX dX4_asks_153 rfl (fun _ => ?_)
        refine ru_iload_n hX dX4_asks_154 rfl (fun _ => ?_)
        refine ru_aload_n hX dX4_asks_155 rfl (fun _ => ?_)
        refine ru_get (v := .inr (some (543, 0))) hX dX4_asks_156 rfl ⟨by decide, by decide⟩ rfl (fun _ => ?_)
        refine ru_iconst hX dX4_asks_159 (fun _ => ?_)
        refine ru_iaload hX dX4_asks_160 ⟨by decide, by decide⟩ rfl ⟨by decide, by decide⟩ (fun _ => ?_)
        exact ru_callV (as := [.inr (some (4, 0)), .inl a3, .inl (σ.2 543 0 0)]) (rest := []) hX dX4_asks_161 hc188 rfl (Nat.le_of_ble_eq_true rfl) (0, 0) ⟨Nat.zero_le _, Nat.zero_le _⟩ h
theorem bX4_asks_164 {cs ss : Nat → Option (Nat × eh_T)} {lim : Nat × Nat} {Rt : Option eh_V → eh_S → Prop} {X : eh_X} (hX : eh_Ru eh_nX eh_fl4 eh_kn4 cs ss lim Rt 1 cX4_asks X) {T177 : eh_T} (hc177 : cs 177 = some (4, T177)) {σ : eh_S}  {a1 : Int} {a2 : Int} {o3 : Option eh_V} {o4 : Option eh_V} {o5 : Option eh_V} {o6 : Option eh_V} {o7 : Option eh_V}  (h : eh_ok σ → T177 [.inr (some (4, 0)), .inl a1, .inl a2, .inl 0] σ (0, 0) (fun r σ1 => X 171 [some (.inr (some (4, 0))), some (.inl a1), some (.inl a2), o3, o4, o5, o6, o7] (r.toList ++ []) σ1 (0, 0))) : X 164 [some (.inr (some (4, 0))), some (.inl a1), some (.inl a2), o3, o4, o5, o6, o7] [] σ (0, 0) := by
  refine ru_ok hX (fun hok => ?_)
  replace h := h hok
  refine ru_aload_n hX dX4_asks_164 rfl (fun _ => ?_)
  refine ru_iload_n hX dX4_asks_165 rfl (fun _ => ?_)
  refine ru_iload_n hX dX4_asks_166 rfl (fun _ => ?_)
  refine ru_iconst hX dX4_asks_167 (fun _ => ?_)
  exact ru_callV (as := [.inr (some (4, 0)), .inl a1, .inl a2, .inl 0]) (rest := []) hX dX4_asks_168 hc177 rfl (Nat.le_of_ble_eq_true rfl) (0, 0) ⟨Nat.zero_le _, Nat.zero_le _⟩ h
theorem bX4_asks_171 {cs ss : Nat → Option (Nat × eh_T)} {lim : Nat × Nat} {Rt : Option eh_V → eh_S → Prop} {X : eh_X} (hX : eh_Ru eh_nX eh_fl4 eh_kn4 cs ss lim Rt 1 cX4_asks X) {T191 : eh_T} (hc191 : cs 191 = some (2, T191)) {σ : eh_S}  {a1 : Int} {a2 : Int} {o3 : Option eh_V} {o4 : Option eh_V} {o5 : Option eh_V} {o6 : Option eh_V} {o7 : Option eh_V}  (h : eh_ok σ → T191 [.inr (some (4, 0)), .inl a1] σ (0, 0) (fun r σ1 => X 176 [some (.inr (some (4, 0))), some (.inl a1), some (.inl a2), o3, o4, o5, o6, o7] (r.toList ++ []) σ1 (0, 0))) : X 171 [some (.inr (some (4, 0))), some (.inl a1), some (.inl a2), o3, o4, o5, o6, o7] [] σ (0, 0) := by
  refine ru_ok hX (fun hok => ?_)
  replace h := h hok
  refine ru_aload_n hX dX4_asks_171 rfl (fun _ => ?_)
  refine ru_iload_n hX dX4_asks_172 rfl (fun _ => ?_)
  exact ru_callV (as := [.inr (some (4, 0)), .inl a1]) (rest := []) hX dX4_asks_173 hc191 rfl (Nat.le_of_ble_eq_true rfl) (0, 0) ⟨Nat.zero_le _, Nat.zero_le _⟩ h
theorem bX4_asks_176 {cs ss : Nat → Option (Nat × eh_T)} {lim : Nat × Nat} {Rt : Option eh_V → eh_S → Prop} {X : eh_X} (hX : eh_Ru eh_nX eh_fl4 eh_kn4 cs ss lim Rt 1 cX4_asks X) {T194 : eh_T} (hc194 : cs 194 = some (2, T194)) {σ : eh_S}  {a1 : Int} {a2 : Int} {o3 : Option eh_V} {o4 : Option eh_V} {o5 : Option eh_V} {o6 : Option eh_V} {o7 : Option eh_V} {s0 : Int}  (h : eh_ok σ → (-2147483648 ≤ s0 ∧ s0 < 2147483648) ∧ ((s0 = 0 → Rt (some (.inl 1)) σ) ∧ (¬ s0 = 0 → T194 [.inr (some (4, 0)), .inl a1] σ (0, 0) (fun r σ1 => X 184 [some (.inr (some (4, 0))), some (.inl a1), some (.inl a2), o3, o4, o5, o6, o7] (r.toList ++ []) σ1 (0, 0))))) : X 176 [some (.inr (some (4, 0))), some (.inl a1), some (.inl a2), o3, o4, o5, o6, o7] [.inl s0] σ (0, 0) := by
  refine ru_ok hX (fun hok => ?_)
  replace h := h hok
  obtain ⟨k1, h⟩ := h
  refine ru_if_eq (tgt := 212) hX dX4_asks_176 (by decide) k1 (fun q => ?_) (fun q => ?_)
  · have q2 := q
    replace h := h.1 q2
    refine ru_iconst hX dX4_asks_212 (fun _ => ?_)
    exact ru_ireturn hX dX4_asks_213 (Or.inr ⟨rfl, by decide⟩) ⟨Nat.zero_le _, Nat.zero_le _⟩ (fun _ => h)
  · have q3 := q
    replace h := h.2 q3
    refine ru_aload_n hX dX4_asks_179 rfl (fun _ => ?_)
    refine ru_iload_n hX dX4_asks_180 rfl (fun _ => ?_)
    exact ru_callV (as := [.inr (some (4, 0)), .inl a1]) (rest := []) hX dX4_asks_181 hc194 rfl (Nat.le_of_ble_eq_true rfl) (0, 0) ⟨Nat.zero_le _, Nat.zero_le _⟩ h
theorem bX4_asks_184 {cs ss : Nat → Option (Nat × eh_T)} {lim : Nat × Nat} {Rt : Option eh_V → eh_S → Prop} {X : eh_X} (hX : eh_Ru eh_nX eh_fl4 eh_kn4 cs ss lim Rt 1 cX4_asks X)  {σ : eh_S}  {o1 : Option eh_V} {a2 : Int} {o3 : Option eh_V} {o4 : Option eh_V} {o5 : Option eh_V} {o6 : Option eh_V} {o7 : Option eh_V}  (h : eh_ok σ → (0 ≤ a2 ∧ a2 < 201) ∧ Rt (some (.inl 1)) (eh_sA σ 534 0 a2 1)) : X 184 [some (.inr (some (4, 0))), o1, some (.inl a2), o3, o4, o5, o6, o7] [] σ (0, 0) := by
  refine ru_ok hX (fun hok => ?_)
  replace h := h hok
  refine ru_aload_n hX dX4_asks_184 rfl (fun _ => ?_)
  refine ru_get (v := .inr (some (534, 0))) hX dX4_asks_185 rfl ⟨by decide, by decide⟩ rfl (fun _ => ?_)
  refine ru_iload_n hX dX4_asks_188 rfl (fun _ => ?_)
  refine ru_iconst hX dX4_asks_189 (fun _ => ?_)
  obtain ⟨k1, h⟩ := h
  refine ru_zastore hX dX4_asks_190 (by decide) ⟨by decide, by decide⟩ rfl k1 (by decide) (fun _ => ?_)
  refine ru_goto (tgt := 212) hX dX4_asks_191 (by decide) ?_
  refine ru_iconst hX dX4_asks_212 (fun hok2 => ?_)
  exact ru_ireturn hX dX4_asks_213 (Or.inr ⟨rfl, by decide⟩) ⟨Nat.zero_le _, Nat.zero_le _⟩ (fun _ => h)
theorem bX4_asks_217 {cs ss : Nat → Option (Nat × eh_T)} {lim : Nat × Nat} {Rt : Option eh_V → eh_S → Prop} {X : eh_X} (hX : eh_Ru eh_nX eh_fl4 eh_kn4 cs ss lim Rt 1 cX4_asks X) {T181 : eh_T} (hc181 : cs 181 = some (3, T181)) {σ : eh_S}  {a1 : Int} {a2 : Int} {a3 : Int} {o4 : Option eh_V} {o5 : Option eh_V} {a6 : Int} {a7 : Int}  (h : eh_ok σ → (-2147483648 ≤ a7 ∧ a7 < 2147483648) ∧ ((σ.1 544 0 ≤ a7 → (-2147483648 ≤ a6 ∧ a6 < 2147483648) ∧ ((a6 = 0 → Rt (some (.inl 1)) σ) ∧ (¬ a6 = 0 → (0 ≤ (201 * a1) + a2 ∧ (201 * a1) + a2 < 1608) ∧ Rt (some (.inl 1)) (eh_sA σ 531 0 ((201 * a1) + a2) 1)))) ∧ (¬ σ.1 544 0 ≤ a7 → T181 [.inr (some (4, 0)), .inl a1, .inl a2] σ (0, 0) (fun r σ1 => X 232 [some (.inr (some (4, 0))), some (.inl a1), some (.inl a2), some (.inl a3), o4, o5, some (.inl a6), some (.inl a7)] (r.toList ++ []) σ1 (0, 0))))) : X 217 [some (.inr (some (4, 0))), some (.inl a1), some (.inl a2), some (.inl a3), o4, o5, some (.inl a6), some (.inl a7)] [] σ (0, 0) := by
  refine ru_ok hX (fun hok => ?_)
  replace h := h hok
  refine ru_iload hX dX4_asks_217 rfl (fun _ => ?_)
  refine ru_aload_n hX dX4_asks_219 rfl (fun _ => ?_)
  refine ru_get (v := .inl (σ.1 544 0)) hX dX4_asks_220 rfl ⟨by decide, by decide⟩ rfl (fun _ => ?_)
  obtain ⟨k1, h⟩ := h
  refine ru_icmp_ge (tgt := 273) hX dX4_asks_223 (by decide) k1 (hok.1 _ _) (fun q => ?_) (fun q => ?_)
  · have q2 := q
    replace h := h.1 q2
    refine ru_iload hX dX4_asks_273 rfl (fun _ => ?_)
    obtain ⟨k3, h⟩ := h
    refine ru_if_eq (tgt := 291) hX dX4_asks_275 (by decide) k3 (fun q => ?_) (fun q => ?_)
    · have q4 := q
      replace h := h.1 q4
      refine ru_iconst hX dX4_asks_291 (fun _ => ?_)
      exact ru_ireturn hX dX4_asks_292 (Or.inr ⟨rfl, by decide⟩) ⟨Nat.zero_le _, Nat.zero_le _⟩ (fun _ => h)
    · have q5 := q
      replace h := h.2 q5
      refine ru_aload_n hX dX4_asks_278 rfl (fun _ => ?_)
      refine ru_get (v := .inr (some (531, 0))) hX dX4_asks_279 rfl ⟨by decide, by decide⟩ rfl (fun _ => ?_)
      refine ru_sipush hX dX4_asks_282 (by decide) (fun _ => ?_)
      refine ru_iload_n hX dX4_asks_285 rfl (fun _ => ?_)
      refine ru_imul hX dX4_asks_286 (fun _ => ?_)
      refine ru_iload_n hX dX4_asks_287 rfl (fun _ => ?_)
      refine ru_iadd hX dX4_asks_288 (fun _ => ?_)
      refine ru_iconst hX dX4_asks_289 (fun _ => ?_)
      obtain ⟨k6, h⟩ := h
      refine ru_zastore hX dX4_asks_290 (by decide) ⟨by decide, by decide⟩ rfl k6 (by decide) (fun _ => ?_)
      refine ru_iconst hX dX4_asks_291 (fun hok7 => ?_)
      exact ru_ireturn hX dX4_asks_292 (Or.inr ⟨rfl, by decide⟩) ⟨Nat.zero_le _, Nat.zero_le _⟩ (fun _ => h)
  · have q8 := q
    replace h := h.2 q8
    refine ru_aload_n hX dX4_asks_226 rfl (fun _ => ?_)
    refine ru_iload_n hX dX4_asks_227 rfl (fun _ => ?_)
    refine ru_iload_n hX dX4_asks_228 rfl (fun _ => ?_)
    exact ru_callV (as := [.inr (some (4, 0)), .inl a1, .inl a2]) (rest := []) hX dX4_asks_229 hc181 rfl (Nat.le_of_ble_eq_true rfl) (0, 0) ⟨Nat.zero_le _, Nat.zero_le _⟩ h
theorem bX4_asks_232 {cs ss : Nat → Option (Nat × eh_T)} {lim : Nat × Nat} {Rt : Option eh_V → eh_S → Prop} {X : eh_X} (hX : eh_Ru eh_nX eh_fl4 eh_kn4 cs ss lim Rt 1 cX4_asks X) {T188 : eh_T} (hc188 : cs 188 = some (3, T188)) {σ : eh_S}  {a1 : Int} {a2 : Int} {a3 : Int} {o4 : Option eh_V} {o5 : Option eh_V} {a6 : Int} {a7 : Int}  (h : eh_ok σ → (0 ≤ a7 ∧ a7 < 8) ∧ T188 [.inr (some (4, 0)), .inl a3, .inl (σ.2 543 0 a7)] σ (0, 0) (fun r σ1 => X 244 [some (.inr (some (4, 0))), some (.inl a1), some (.inl a2), some (.inl a3), o4, o5, some (.inl a6), some (.inl a7)] (r.toList ++ []) σ1 (0, 0))) : X 232 [some (.inr (some (4, 0))), some (.inl a1), some (.inl a2), some (.inl a3), o4, o5, some (.inl a6), some (.inl a7)] [] σ (0, 0) := by
  refine ru_ok hX (fun hok => ?_)
  replace h := h hok
  refine ru_aload_n hX dX4_asks_232 rfl (fun _ => ?_)
  refine ru_iload_n hX dX4_asks_233 rfl (fun _ => ?_)
  refine ru_aload_n hX dX4_asks_234 rfl (fun _ => ?_)
  refine ru_get (v := .inr (some (543, 0))) hX dX4_asks_235 rfl ⟨by decide, by decide⟩ rfl (fun _ => ?_)
  refine ru_iload hX dX4_asks_238 rfl (fun _ => ?_)
  obtain ⟨k1, h⟩ := h
  refine ru_iaload hX dX4_asks_240 ⟨by decide, by decide⟩ rfl k1 (fun _ => ?_)
  exact ru_callV (as := [.inr (some (4, 0)), .inl a3, .inl (σ.2 543 0 a7)]) (rest := []) hX dX4_asks_241 hc188 rfl (Nat.le_of_ble_eq_true rfl) (0, 0) ⟨Nat.zero_le _, Nat.zero_le _⟩ h
theorem bX4_asks_244 {cs ss : Nat → Option (Nat × eh_T)} {lim : Nat × Nat} {Rt : Option eh_V → eh_S → Prop} {X : eh_X} (hX : eh_Ru eh_nX eh_fl4 eh_kn4 cs ss lim Rt 1 cX4_asks X) {T198 : eh_T} (hc198 : cs 198 = some (2, T198)) {σ : eh_S}  {a1 : Int} {a2 : Int} {a3 : Int} {o4 : Option eh_V} {o5 : Option eh_V} {a6 : Int} {a7 : Int}  (h : eh_ok σ → T198 [.inr (some (4, 0)), .inl a1] σ (0, 0) (fun r σ1 => X 249 [some (.inr (some (4, 0))), some (.inl a1), some (.inl a2), some (.inl a3), o4, o5, some (.inl a6), some (.inl a7)] (r.toList ++ []) σ1 (0, 0))) : X 244 [some (.inr (some (4, 0))), some (.inl a1), some (.inl a2), some (.inl a3), o4, o5, some (.inl a6), some (.inl a7)] [] σ (0, 0) := by
  refine ru_ok hX (fun hok => ?_)
  replace h := h hok
  refine ru_aload_n hX dX4_asks_244 rfl (fun _ => ?_)
  refine ru_iload_n hX dX4_asks_245 rfl (fun _ => ?_)
  exact ru_callV (as := [.inr (some (4, 0)), .inl a1]) (rest := []) hX dX4_asks_246 hc198 rfl (Nat.le_of_ble_eq_true rfl) (0, 0) ⟨Nat.zero_le _, Nat.zero_le _⟩ h
theorem bX4_asks_249 {cs ss : Nat → Option (Nat × eh_T)} {lim : Nat × Nat} {Rt : Option eh_V → eh_S → Prop} {X : eh_X} (hX : eh_Ru eh_nX eh_fl4 eh_kn4 cs ss lim Rt 1 cX4_asks X) {T191 : eh_T} (hc191 : cs 191 = some (2, T191)) {σ : eh_S}  {a1 : Int} {a2 : Int} {a3 : Int} {o4 : Option eh_V} {o5 : Option eh_V} {a6 : Int} {a7 : Int} {s0 : Int}  (h : eh_ok σ → (-2147483648 ≤ s0 ∧ s0 < 2147483648) ∧ ((s0 = 0 → Rt (some (.inl 0)) σ) ∧ (¬ s0 = 0 → T191 [.inr (some (4, 0)), .inl a1] σ (0, 0) (fun r σ1 => X 259 [some (.inr (some (4, 0))), some (.inl a1), some (.inl a2), some (.inl a3), o4, o5, some (.inl a6), some (.inl a7)] (r.toList ++ []) σ1 (0, 0))))) : X 249 [some (.inr (some (4, 0))), some (.inl a1), some (.inl a2), some (.inl a3), o4, o5, some (.inl a6), some (.inl a7)] [.inl s0] σ (0, 0) := by
  refine ru_ok hX (fun hok => ?_)
  replace h := h hok
  obtain ⟨k1, h⟩ := h
  refine ru_if_ne (tgt := 254) hX dX4_asks_249 (by decide) k1 (fun q => ?_) (fun q => ?_)
  · have q2 := q
    replace h := h.2 q2
    refine ru_aload_n hX dX4_asks_254 rfl (fun _ => ?_)
    refine ru_iload_n hX dX4_asks_255 rfl (fun _ => ?_)
    exact ru_callV (as := [.inr (some (4, 0)), .inl a1]) (rest := []) hX dX4_asks_256 hc191 rfl (Nat.le_of_ble_eq_true rfl) (0, 0) ⟨Nat.zero_le _, Nat.zero_le _⟩ h
  · have q3 := q
    replace h := h.1 q3
    refine ru_iconst hX dX4_asks_252 (fun _ => ?_)
    exact ru_ireturn hX dX4_asks_253 (Or.inr ⟨rfl, by decide⟩) ⟨Nat.zero_le _, Nat.zero_le _⟩ (fun _ => h)
theorem bX4_asks_259 {cs ss : Nat → Option (Nat × eh_T)} {lim : Nat × Nat} {Rt : Option eh_V → eh_S → Prop} {X : eh_X} (hX : eh_Ru eh_nX eh_fl4 eh_kn4 cs ss lim Rt 1 cX4_asks X) {T194 : eh_T} (hc194 : cs 194 = some (2, T194)) {σ : eh_S}  {a1 : Int} {a2 : Int} {a3 : Int} {o4 : Option eh_V} {o5 : Option eh_V} {a6 : Int} {a7 : Int} {s0 : Int}  (h : eh_ok σ → (-2147483648 ≤ s0 ∧ s0 < 2147483648) ∧ ((s0 = 0 → X 267 [some (.inr (some (4, 0))), some (.inl a1), some (.inl a2), some (.inl a3), o4, o5, some (.inl a6), some (.inl a7)] [] σ (0, 0)) ∧ (¬ s0 = 0 → T194 [.inr (some (4, 0)), .inl a1] σ (0, 0) (fun r σ1 => X 267 [some (.inr (some (4, 0))), some (.inl a1), some (.inl a2), some (.inl a3), o4, o5, some (.inl a6), some (.inl a7)] (r.toList ++ []) σ1 (0, 0))))) : X 259 [some (.inr (some (4, 0))), some (.inl a1), some (.inl a2), some (.inl a3), o4, o5, some (.inl a6), some (.inl a7)] [.inl s0] σ (0, 0) := by
  refine ru_ok hX (fun hok => ?_)
  replace h := h hok
  obtain ⟨k1, h⟩ := h
  refine ru_if_eq (tgt := 267) hX dX4_asks_259 (by decide) k1 (fun q => ?_) (fun q => ?_)
  · have q2 := q
    replace h := h.1 q2
    exact h
  · have q3 := q
    replace h := h.2 q3
    refine ru_aload_n hX dX4_asks_262 rfl (fun _ => ?_)
    refine ru_iload_n hX dX4_asks_263 rfl (fun _ => ?_)
    exact ru_callV (as := [.inr (some (4, 0)), .inl a1]) (rest := []) hX dX4_asks_264 hc194 rfl (Nat.le_of_ble_eq_true rfl) (0, 0) ⟨Nat.zero_le _, Nat.zero_le _⟩ h
theorem bX4_asks_267 {cs ss : Nat → Option (Nat × eh_T)} {lim : Nat × Nat} {Rt : Option eh_V → eh_S → Prop} {X : eh_X} (hX : eh_Ru eh_nX eh_fl4 eh_kn4 cs ss lim Rt 1 cX4_asks X)  {σ : eh_S}  {a1 : Int} {a2 : Int} {a3 : Int} {o4 : Option eh_V} {o5 : Option eh_V} {a6 : Int} {a7 : Int}  (h : eh_ok σ → X 217 [some (.inr (some (4, 0))), some (.inl a1), some (.inl a2), some (.inl a3), o4, o5, some (.inl a6), some (.inl (a7 + 1))] [] σ (0, 0)) : X 267 [some (.inr (some (4, 0))), some (.inl a1), some (.inl a2), some (.inl a3), o4, o5, some (.inl a6), some (.inl a7)] [] σ (0, 0) := by
  refine ru_ok hX (fun hok => ?_)
  replace h := h hok
  refine ru_iinc (ls1 := [some (.inr (some (4, 0))), some (.inl a1), some (.inl a2), some (.inl a3), o4, o5, some (.inl a6), some (.inl (a7 + 1))]) hX dX4_asks_267 rfl rfl (fun _ => ?_)
  refine ru_goto (tgt := 217) hX dX4_asks_270 (by decide) ?_
  exact h
theorem bX4_findMoves_0 {cs ss : Nat → Option (Nat × eh_T)} {lim : Nat × Nat} {Rt : Option eh_V → eh_S → Prop} {X : eh_X} (hX : eh_Ru eh_nX eh_fl4 eh_kn4 cs ss lim Rt 2 cX4_findMoves X)  {σ : eh_S}  {a1 : Int} {a2 : Int} {a3 : Int} {o4 : Option eh_V} {o5 : Option eh_V} {o6 : Option eh_V} {o7 : Option eh_V} {o8 : Option eh_V}  (h : eh_ok σ → (0 ≤ (σ.1 542 0) - 1 ∧ (σ.1 542 0) - 1 < 25) ∧ X 30 [some (.inr (some (4, 0))), some (.inl a1), some (.inl a2), some (.inl a3), some (.inl (σ.2 541 0 ((σ.1 542 0) - 1))), some (.inl 1), some (.inl 0), some (.inl ((σ.2 541 0 ((σ.1 542 0) - 1)) + 1)), o8] [] (eh_sV σ 544 0 0) (0, 0)) : X 0 [some (.inr (some (4, 0))), some (.inl a1), some (.inl a2), some (.inl a3), o4, o5, o6, o7, o8] [] σ (0, 0) := by
  refine ru_ok hX (fun hok => ?_)
  replace h := h hok
  refine ru_aload_n hX dX4_findMoves_0 rfl (fun _ => ?_)
  refine ru_iconst hX dX4_findMoves_1 (fun _ => ?_)
  refine ru_putI (id := 544) hX dX4_findMoves_2 rfl ⟨by decide, by decide⟩ rfl (by unfold eh_r; decide) rfl (fun _ => ?_)
  refine ru_aload_n hX dX4_findMoves_5 rfl (fun hok1 => ?_)
  refine ru_get (v := .inr (some (541, 0))) hX dX4_findMoves_6 rfl ⟨by decide, by decide⟩ rfl (fun _ => ?_)
  refine ru_aload_n hX dX4_findMoves_9 rfl (fun _ => ?_)
  refine ru_get (v := .inl (σ.1 542 0)) hX dX4_findMoves_10 rfl ⟨by decide, by decide⟩ rfl (fun _ => ?_)
  refine ru_iconst hX dX4_findMoves_13 (fun _ => ?_)
  refine ru_isub hX dX4_findMoves_14 (fun _ => ?_)
  obtain ⟨k2, h⟩ := h
  refine ru_iaload hX dX4_findMoves_15 ⟨by decide, by decide⟩ rfl k2 (fun _ => ?_)
  refine ru_istore (ls1 := [some (.inr (some (4, 0))), some (.inl a1), some (.inl a2), some (.inl a3), some (.inl (σ.2 541 0 ((σ.1 542 0) - 1))), o5, o6, o7, o8]) hX dX4_findMoves_16 (Nat.le_of_ble_eq_true rfl) rfl (fun _ => ?_)
  refine ru_iconst hX dX4_findMoves_18 (fun _ => ?_)
  refine ru_istore (ls1 := [some (.inr (some (4, 0))), some (.inl a1), some (.inl a2), some (.inl a3), some (.inl (σ.2 541 0 ((σ.1 542 0) - 1))), some (.inl 1), o6, o7, o8]) hX dX4_findMoves_19 (Nat.le_of_ble_eq_true rfl) rfl (fun _ => ?_)
  refine ru_iconst hX dX4_findMoves_21 (fun _ => ?_)
  refine ru_istore (ls1 := [some (.inr (some (4, 0))), some (.inl a1), some (.inl a2), some (.inl a3), some (.inl (σ.2 541 0 ((σ.1 542 0) - 1))), some (.inl 1), some (.inl 0), o7, o8]) hX dX4_findMoves_22 (Nat.le_of_ble_eq_true rfl) rfl (fun _ => ?_)
  refine ru_iload hX dX4_findMoves_24 rfl (fun _ => ?_)
  refine ru_iconst hX dX4_findMoves_26 (fun _ => ?_)
  refine ru_iadd hX dX4_findMoves_27 (fun _ => ?_)
  refine ru_istore (ls1 := [some (.inr (some (4, 0))), some (.inl a1), some (.inl a2), some (.inl a3), some (.inl (σ.2 541 0 ((σ.1 542 0) - 1))), some (.inl 1), some (.inl 0), some (.inl ((σ.2 541 0 ((σ.1 542 0) - 1)) + 1)), o8]) hX dX4_findMoves_28 (Nat.le_of_ble_eq_true rfl) rfl (fun _ => ?_)
  exact h
theorem bX4_findMoves_30 {cs ss : Nat → Option (Nat × eh_T)} {lim : Nat × Nat} {Rt : Option eh_V → eh_S → Prop} {X : eh_X} (hX : eh_Ru eh_nX eh_fl4 eh_kn4 cs ss lim Rt 2 cX4_findMoves X) {T163 : eh_T} (hc163 : cs 163 = some (2, T163)) {σ : eh_S}  {a1 : Int} {a2 : Int} {a3 : Int} {a4 : Int} {a5 : Int} {a6 : Int} {a7 : Int} {o8 : Option eh_V}  (h : eh_ok σ → T163 [.inr (some (4, 0)), .inl a1] σ (0, 0) (fun r σ1 => X 37 [some (.inr (some (4, 0))), some (.inl a1), some (.inl a2), some (.inl a3), some (.inl a4), some (.inl a5), some (.inl a6), some (.inl a7), o8] (r.toList ++ [.inl a7]) σ1 (0, 0))) : X 30 [some (.inr (some (4, 0))), some (.inl a1), some (.inl a2), some (.inl a3), some (.inl a4), some (.inl a5), some (.inl a6), some (.inl a7), o8] [] σ (0, 0) := by
  refine ru_ok hX (fun hok => ?_)
  replace h := h hok
  refine ru_iload hX dX4_findMoves_30 rfl (fun _ => ?_)
  refine ru_aload_n hX dX4_findMoves_32 rfl (fun _ => ?_)
  refine ru_iload_n hX dX4_findMoves_33 rfl (fun _ => ?_)
  exact ru_callV (as := [.inr (some (4, 0)), .inl a1]) (rest := [.inl a7]) hX dX4_findMoves_34 hc163 rfl (Nat.le_of_ble_eq_true rfl) (0, 0) ⟨Nat.zero_le _, Nat.zero_le _⟩ h
theorem bX4_findMoves_37 {cs ss : Nat → Option (Nat × eh_T)} {lim : Nat × Nat} {Rt : Option eh_V → eh_S → Prop} {X : eh_X} (hX : eh_Ru eh_nX eh_fl4 eh_kn4 cs ss lim Rt 2 cX4_findMoves X) {T173 : eh_T} (hc173 : cs 173 = some (4, T173)) {σ : eh_S}  {a1 : Int} {a2 : Int} {a3 : Int} {a4 : Int} {a5 : Int} {a6 : Int} {a7 : Int} {o8 : Option eh_V} {s0 : Int} {s1 : Int}  (h : eh_ok σ → (-2147483648 ≤ s1 ∧ s1 < 2147483648) ∧ (-2147483648 ≤ s0 ∧ s0 < 2147483648) ∧ ((s0 ≤ s1 → X 155 [some (.inr (some (4, 0))), some (.inl a1), some (.inl a2), some (.inl a3), some (.inl a4), some (.inl a5), some (.inl a6), some (.inl 0), some (.inl 0)] [] σ (0, 0)) ∧ (¬ s0 ≤ s1 → (-2147483648 ≤ a5 ∧ a5 < 2147483648) ∧ ((a5 = 0 → X 155 [some (.inr (some (4, 0))), some (.inl a1), some (.inl a2), some (.inl a3), some (.inl a4), some (.inl a5), some (.inl a6), some (.inl 0), some (.inl 0)] [] σ (0, 0)) ∧ (¬ a5 = 0 → (0 ≤ (6 * a1) + a7 ∧ (6 * a1) + a7 < 48) ∧ ((σ.2 524 0 ((6 * a1) + a7) = 3 → (-2147483648 ≤ a6 ∧ a6 < 2147483648) ∧ ((a6 = 0 → ((σ.2 524 0 ((6 * a1) + a7) = 2 → X 30 [some (.inr (some (4, 0))), some (.inl a1), some (.inl a2), some (.inl a3), some (.inl a4), some (.inl 1), some (.inl 1), some (.inl (a7 + 1)), some (.inl (σ.2 524 0 ((6 * a1) + a7)))] [] σ (0, 0)) ∧ (¬ σ.2 524 0 ((6 * a1) + a7) = 2 → X 30 [some (.inr (some (4, 0))), some (.inl a1), some (.inl a2), some (.inl a3), some (.inl a4), some (.inl 1), some (.inl 1), some (.inl (a7 + 1)), some (.inl (σ.2 524 0 ((6 * a1) + a7)))] [] σ (0, 0)))) ∧ (¬ a6 = 0 → ((σ.2 524 0 ((6 * a1) + a7) = 2 → X 30 [some (.inr (some (4, 0))), some (.inl a1), some (.inl a2), some (.inl a3), some (.inl a4), some (.inl 1), some (.inl 1), some (.inl (a7 + 1)), some (.inl (σ.2 524 0 ((6 * a1) + a7)))] [] σ (0, 0)) ∧ (¬ σ.2 524 0 ((6 * a1) + a7) = 2 → X 30 [some (.inr (some (4, 0))), some (.inl a1), some (.inl a2), some (.inl a3), some (.inl a4), some (.inl 1), some (.inl 1), some (.inl (a7 + 1)), some (.inl (σ.2 524 0 ((6 * a1) + a7)))] [] σ (0, 0)))))) ∧ (¬ σ.2 524 0 ((6 * a1) + a7) = 3 → (-2147483648 ≤ a6 ∧ a6 < 2147483648) ∧ ((a6 = 0 → T173 [.inr (some (4, 0)), .inl a1, .inl a7, .inl a2] σ (0, 0) (fun r σ1 => X 82 [some (.inr (some (4, 0))), some (.inl a1), some (.inl a2), some (.inl a3), some (.inl a4), some (.inl a5), some (.inl a6), some (.inl a7), some (.inl (σ.2 524 0 ((6 * a1) + a7)))] (r.toList ++ []) σ1 (0, 0))) ∧ (¬ a6 = 0 → (-2147483648 ≤ a3 ∧ a3 < 2147483648) ∧ ((a3 = 0 → T173 [.inr (some (4, 0)), .inl a1, .inl a7, .inl a2] σ (0, 0) (fun r σ1 => X 82 [some (.inr (some (4, 0))), some (.inl a1), some (.inl a2), some (.inl a3), some (.inl a4), some (.inl a5), some (.inl a6), some (.inl a7), some (.inl (σ.2 524 0 ((6 * a1) + a7)))] (r.toList ++ []) σ1 (0, 0))) ∧ (¬ a3 = 0 → ((σ.2 524 0 ((6 * a1) + a7) = 2 → X 30 [some (.inr (some (4, 0))), some (.inl a1), some (.inl a2), some (.inl a3), some (.inl a4), some (.inl 1), some (.inl 1), some (.inl (a7 + 1)), some (.inl (σ.2 524 0 ((6 * a1) + a7)))] [] σ (0, 0)) ∧ (¬ σ.2 524 0 ((6 * a1) + a7) = 2 → X 30 [some (.inr (some (4, 0))), some (.inl a1), some (.inl a2), some (.inl a3), some (.inl a4), some (.inl 0), some (.inl 1), some (.inl (a7 + 1)), some (.inl (σ.2 524 0 ((6 * a1) + a7)))] [] σ (0, 0)))))))))))))) : X 37 [some (.inr (some (4, 0))), some (.inl a1), some (.inl a2), some (.inl a3), some (.inl a4), some (.inl a5), some (.inl a6), some (.inl a7), o8] [.inl s0, .inl s1] σ (0, 0) := by
  refine ru_ok hX (fun hok => ?_)
  replace h := h hok
  obtain ⟨k1, h⟩ := h
  obtain ⟨k2, h⟩ := h
  refine ru_icmp_ge (tgt := 149) hX dX4_findMoves_37 (by decide) k1 k2 (fun q => ?_) (fun q => ?_)
  · have q3 := q
    replace h := h.1 q3
    refine ru_iconst hX dX4_findMoves_149 (fun _ => ?_)
    refine ru_istore (ls1 := [some (.inr (some (4, 0))), some (.inl a1), some (.inl a2), some (.inl a3), some (.inl a4), some (.inl a5), some (.inl a6), some (.inl 0), o8]) hX dX4_findMoves_150 (Nat.le_of_ble_eq_true rfl) rfl (fun _ => ?_)
    refine ru_iconst hX dX4_findMoves_152 (fun _ => ?_)
    refine ru_istore (ls1 := [some (.inr (some (4, 0))), some (.inl a1), some (.inl a2), some (.inl a3), some (.inl a4), some (.inl a5), some (.inl a6), some (.inl 0), some (.inl 0)]) hX dX4_findMoves_153 (Nat.le_of_ble_eq_true rfl) rfl (fun _ => ?_)
    exact h
  · have q4 := q
    replace h := h.2 q4
    refine ru_iload hX dX4_findMoves_40 rfl (fun _ => ?_)
    obtain ⟨k5, h⟩ := h
    refine ru_if_eq (tgt := 149) hX dX4_findMoves_42 (by decide) k5 (fun q => ?_) (fun q => ?_)
    · have q6 := q
      replace h := h.1 q6
      refine ru_iconst hX dX4_findMoves_149 (fun _ => ?_)
      refine ru_istore (ls1 := [some (.inr (some (4, 0))), some (.inl a1), some (.inl a2), some (.inl a3), some (.inl a4), some (.inl a5), some (.inl a6), some (.inl 0), o8]) hX dX4_findMoves_150 (Nat.le_of_ble_eq_true rfl) rfl (fun _ => ?_)
      refine ru_iconst hX dX4_findMoves_152 (fun _ => ?_)
      refine ru_istore (ls1 := [some (.inr (some (4, 0))), some (.inl a1), some (.inl a2), some (.inl a3), some (.inl a4), some (.inl a5), some (.inl a6), some (.inl 0), some (.inl 0)]) hX dX4_findMoves_153 (Nat.le_of_ble_eq_true rfl) rfl (fun _ => ?_)
      exact h
    · have q7 := q
      replace h := h.2 q7
      refine ru_aload_n hX dX4_findMoves_45 rfl (fun _ => ?_)
      refine ru_get (v := .inr (some (524, 0))) hX dX4_findMoves_46 rfl ⟨by decide, by decide⟩ rfl (fun _ => ?_)
      refine ru_bipush hX dX4_findMoves_49 (by decide) (fun _ => ?_)
      refine ru_iload_n hX dX4_findMoves_51 rfl (fun _ => ?_)
      refine ru_imul hX dX4_findMoves_52 (fun _ => ?_)
      refine ru_iload hX dX4_findMoves_53 rfl (fun _ => ?_)
      refine ru_iadd hX dX4_findMoves_55 (fun _ => ?_)
      obtain ⟨k8, h⟩ := h
      refine ru_iaload hX dX4_findMoves_56 ⟨by decide, by decide⟩ rfl k8 (fun _ => ?_)
      refine ru_istore (ls1 := [some (.inr (some (4, 0))), some (.inl a1), some (.inl a2), some (.inl a3), some (.inl a4), some (.inl a5), some (.inl a6), some (.inl a7), some (.inl (σ.2 524 0 ((6 * a1) + a7)))]) hX dX4_findMoves_57 (Nat.le_of_ble_eq_true rfl) rfl (fun _ => ?_)
      refine ru_iload hX dX4_findMoves_59 rfl (fun _ => ?_)
      refine ru_iconst hX dX4_findMoves_61 (fun _ => ?_)
      refine ru_icmp_eq (tgt := 106) hX dX4_findMoves_62 (by decide) (hok.2 _ _ _ (by decide) (by decide) (by decide) (by decide)) (by unfold eh_r; decide) (fun q => ?_) (fun q => ?_)
      · have q9 := q
        replace h := h.1 q9
        refine ru_iload hX dX4_findMoves_106 rfl (fun _ => ?_)
        obtain ⟨k10, h⟩ := h
        refine ru_if_ne (tgt := 117) hX dX4_findMoves_108 (by decide) k10 (fun q => ?_) (fun q => ?_)
        · have q11 := q
          replace h := h.2 q11
          refine ru_iconst hX dX4_findMoves_117 (fun _ => ?_)
          refine ru_goto (tgt := 122) hX dX4_findMoves_118 (by decide) ?_
          refine ru_istore (ls1 := [some (.inr (some (4, 0))), some (.inl a1), some (.inl a2), some (.inl a3), some (.inl a4), some (.inl a5), some (.inl 1), some (.inl a7), some (.inl (σ.2 524 0 ((6 * a1) + a7)))]) hX dX4_findMoves_122 (Nat.le_of_ble_eq_true rfl) rfl (fun _ => ?_)
          refine ru_iload hX dX4_findMoves_124 rfl (fun _ => ?_)
          refine ru_iconst hX dX4_findMoves_126 (fun _ => ?_)
          refine ru_icmp_eq (tgt := 136) hX dX4_findMoves_127 (by decide) (hok.2 _ _ _ (by decide) (by decide) (by decide) (by decide)) (by unfold eh_r; decide) (fun q => ?_) (fun q => ?_)
          · have q12 := q
            replace h := h.1 q12
            refine ru_iconst hX dX4_findMoves_136 (fun _ => ?_)
            refine ru_goto (tgt := 141) hX dX4_findMoves_137 (by decide) ?_
            refine ru_istore (ls1 := [some (.inr (some (4, 0))), some (.inl a1), some (.inl a2), some (.inl a3), some (.inl a4), some (.inl 1), some (.inl 1), some (.inl a7), some (.inl (σ.2 524 0 ((6 * a1) + a7)))]) hX dX4_findMoves_141 (Nat.le_of_ble_eq_true rfl) rfl (fun _ => ?_)
            refine ru_iinc (ls1 := [some (.inr (some (4, 0))), some (.inl a1), some (.inl a2), some (.inl a3), some (.inl a4), some (.inl 1), some (.inl 1), some (.inl (a7 + 1)), some (.inl (σ.2 524 0 ((6 * a1) + a7)))]) hX dX4_findMoves_143 rfl rfl (fun _ => ?_)
            refine ru_goto (tgt := 30) hX dX4_findMoves_146 (by decide) ?_
            exact h
          · have q13 := q
            replace h := h.2 q13
            refine ru_iload hX dX4_findMoves_130 rfl (fun _ => ?_)
            refine ru_iconst hX dX4_findMoves_132 (fun _ => ?_)
            refine ru_icmp_ne (tgt := 140) hX dX4_findMoves_133 (by decide) (hok.2 _ _ _ (by decide) (by decide) (by decide) (by decide)) (by unfold eh_r; decide) (fun q => ?_) (fun q => ?_)
            · exact absurd q9 q
            clear q
            refine ru_iconst hX dX4_findMoves_136 (fun _ => ?_)
            refine ru_goto (tgt := 141) hX dX4_findMoves_137 (by decide) ?_
            refine ru_istore (ls1 := [some (.inr (some (4, 0))), some (.inl a1), some (.inl a2), some (.inl a3), some (.inl a4), some (.inl 1), some (.inl 1), some (.inl a7), some (.inl (σ.2 524 0 ((6 * a1) + a7)))]) hX dX4_findMoves_141 (Nat.le_of_ble_eq_true rfl) rfl (fun _ => ?_)
            refine ru_iinc (ls1 := [some (.inr (some (4, 0))), some (.inl a1), some (.inl a2), some (.inl a3), some (.inl a4), some (.inl 1), some (.inl 1), some (.inl (a7 + 1)), some (.inl (σ.2 524 0 ((6 * a1) + a7)))]) hX dX4_findMoves_143 rfl rfl (fun _ => ?_)
            refine ru_goto (tgt := 30) hX dX4_findMoves_146 (by decide) ?_
            exact h
        · have q14 := q
          replace h := h.1 q14
          refine ru_iload hX dX4_findMoves_111 rfl (fun _ => ?_)
          refine ru_iconst hX dX4_findMoves_113 (fun _ => ?_)
          refine ru_icmp_ne (tgt := 121) hX dX4_findMoves_114 (by decide) (hok.2 _ _ _ (by decide) (by decide) (by decide) (by decide)) (by unfold eh_r; decide) (fun q => ?_) (fun q => ?_)
          · exact absurd q9 q
          clear q
          refine ru_iconst hX dX4_findMoves_117 (fun _ => ?_)
          refine ru_goto (tgt := 122) hX dX4_findMoves_118 (by decide) ?_
          refine ru_istore (ls1 := [some (.inr (some (4, 0))), some (.inl a1), some (.inl a2), some (.inl a3), some (.inl a4), some (.inl a5), some (.inl 1), some (.inl a7), some (.inl (σ.2 524 0 ((6 * a1) + a7)))]) hX dX4_findMoves_122 (Nat.le_of_ble_eq_true rfl) rfl (fun _ => ?_)
          refine ru_iload hX dX4_findMoves_124 rfl (fun _ => ?_)
          refine ru_iconst hX dX4_findMoves_126 (fun _ => ?_)
          refine ru_icmp_eq (tgt := 136) hX dX4_findMoves_127 (by decide) (hok.2 _ _ _ (by decide) (by decide) (by decide) (by decide)) (by unfold eh_r; decide) (fun q => ?_) (fun q => ?_)
          · have q15 := q
            replace h := h.1 q15
            refine ru_iconst hX dX4_findMoves_136 (fun _ => ?_)
            refine ru_goto (tgt := 141) hX dX4_findMoves_137 (by decide) ?_
            refine ru_istore (ls1 := [some (.inr (some (4, 0))), some (.inl a1), some (.inl a2), some (.inl a3), some (.inl a4), some (.inl 1), some (.inl 1), some (.inl a7), some (.inl (σ.2 524 0 ((6 * a1) + a7)))]) hX dX4_findMoves_141 (Nat.le_of_ble_eq_true rfl) rfl (fun _ => ?_)
            refine ru_iinc (ls1 := [some (.inr (some (4, 0))), some (.inl a1), some (.inl a2), some (.inl a3), some (.inl a4), some (.inl 1), some (.inl 1), some (.inl (a7 + 1)), some (.inl (σ.2 524 0 ((6 * a1) + a7)))]) hX dX4_findMoves_143 rfl rfl (fun _ => ?_)
            refine ru_goto (tgt := 30) hX dX4_findMoves_146 (by decide) ?_
            exact h
          · have q16 := q
            replace h := h.2 q16
            refine ru_iload hX dX4_findMoves_130 rfl (fun _ => ?_)
            refine ru_iconst hX dX4_findMoves_132 (fun _ => ?_)
            refine ru_icmp_ne (tgt := 140) hX dX4_findMoves_133 (by decide) (hok.2 _ _ _ (by decide) (by decide) (by decide) (by decide)) (by unfold eh_r; decide) (fun q => ?_) (fun q => ?_)
            · exact absurd q9 q
            clear q
            refine ru_iconst hX dX4_findMoves_136 (fun _ => ?_)
            refine ru_goto (tgt := 141) hX dX4_findMoves_137 (by decide) ?_
            refine ru_istore (ls1 := [some (.inr (some (4, 0))), some (.inl a1), some (.inl a2), some (.inl a3), some (.inl a4), some (.inl 1), some (.inl 1), some (.inl a7), some (.inl (σ.2 524 0 ((6 * a1) + a7)))]) hX dX4_findMoves_141 (Nat.le_of_ble_eq_true rfl) rfl (fun _ => ?_)
            refine ru_iinc (ls1 := [some (.inr (some (4, 0))), some (.inl a1), some (.inl a2), some (.inl a3), some (.inl a4), some (.inl 1), some (.inl 1), some (.inl (a7 + 1)), some (.inl (σ.2 524 0 ((6 * a1) + a7)))]) hX dX4_findMoves_143 rfl rfl (fun _ => ?_)
            refine ru_goto (tgt := 30) hX dX4_findMoves_146 (by decide) ?_
            exact h
      · have q17 := q
        replace h := h.2 q17
        refine ru_iload hX dX4_findMoves_65 rfl (fun _ => ?_)
        obtain ⟨k18, h⟩ := h
        refine ru_if_eq (tgt := 74) hX dX4_findMoves_67 (by decide) k18 (fun q => ?_) (fun q => ?_)
        · have q19 := q
          replace h := h.1 q19
          refine ru_aload_n hX dX4_findMoves_74 rfl (fun _ => ?_)
          refine ru_iload_n hX dX4_findMoves_75 rfl (fun _ => ?_)
          refine ru_iload hX dX4_findMoves_76 rfl (fun _ => ?_)
          refine ru_iload_n hX dX4_findMoves_78 rfl (fun _ => ?_)
          exact ru_callV (as := [.inr (some (4, 0)), .inl a1, .inl a7, .inl a2]) (rest := []) hX dX4_findMoves_79 hc173 rfl (Nat.le_of_ble_eq_true rfl) (0, 0) ⟨Nat.zero_le _, Nat.zero_le _⟩ h
        · have q20 := q
          replace h := h.2 q20
          refine ru_iload_n hX dX4_findMoves_70 rfl (fun _ => ?_)
          obtain ⟨k21, h⟩ := h
          refine ru_if_ne (tgt := 106) hX dX4_findMoves_71 (by decide) k21 (fun q => ?_) (fun q => ?_)
          · have q22 := q
            replace h := h.2 q22
            refine ru_iload hX dX4_findMoves_106 rfl (fun _ => ?_)
            refine ru_if_ne (tgt := 117) hX dX4_findMoves_108 (by decide) k18 (fun q => ?_) (fun q => ?_)
            rotate_left
            · exact absurd q q20
            clear q
            refine ru_iconst hX dX4_findMoves_117 (fun _ => ?_)
            refine ru_goto (tgt := 122) hX dX4_findMoves_118 (by decide) ?_
            refine ru_istore (ls1 := [some (.inr (some (4, 0))), some (.inl a1), some (.inl a2), some (.inl a3), some (.inl a4), some (.inl a5), some (.inl 1), some (.inl a7), some (.inl (σ.2 524 0 ((6 * a1) + a7)))]) hX dX4_findMoves_122 (Nat.le_of_ble_eq_true rfl) rfl (fun _ => ?_)
            refine ru_iload hX dX4_findMoves_124 rfl (fun _ => ?_)
            refine ru_iconst hX dX4_findMoves_126 (fun _ => ?_)
            refine ru_icmp_eq (tgt := 136) hX dX4_findMoves_127 (by decide) (hok.2 _ _ _ (by decide) (by decide) (by decide) (by decide)) (by unfold eh_r; decide) (fun q => ?_) (fun q => ?_)
            · have q23 := q
              replace h := h.1 q23
              refine ru_iconst hX dX4_findMoves_136 (fun _ => ?_)
              refine ru_goto (tgt := 141) hX dX4_findMoves_137 (by decide) ?_
              refine ru_istore (ls1 := [some (.inr (some (4, 0))), some (.inl a1), some (.inl a2), some (.inl a3), some (.inl a4), some (.inl 1), some (.inl 1), some (.inl a7), some (.inl (σ.2 524 0 ((6 * a1) + a7)))]) hX dX4_findMoves_141 (Nat.le_of_ble_eq_true rfl) rfl (fun _ => ?_)
              refine ru_iinc (ls1 := [some (.inr (some (4, 0))), some (.inl a1), some (.inl a2), some (.inl a3), some (.inl a4), some (.inl 1), some (.inl 1), some (.inl (a7 + 1)), some (.inl (σ.2 524 0 ((6 * a1) + a7)))]) hX dX4_findMoves_143 rfl rfl (fun _ => ?_)
              refine ru_goto (tgt := 30) hX dX4_findMoves_146 (by decide) ?_
              exact h
            · have q24 := q
              replace h := h.2 q24
              refine ru_iload hX dX4_findMoves_130 rfl (fun _ => ?_)
              refine ru_iconst hX dX4_findMoves_132 (fun _ => ?_)
              refine ru_icmp_ne (tgt := 140) hX dX4_findMoves_133 (by decide) (hok.2 _ _ _ (by decide) (by decide) (by decide) (by decide)) (by unfold eh_r; decide) (fun q => ?_) (fun q => ?_)
              rotate_left
              · exact absurd q q17
              clear q
              refine ru_iconst hX dX4_findMoves_140 (fun _ => ?_)
              refine ru_istore (ls1 := [some (.inr (some (4, 0))), some (.inl a1), some (.inl a2), some (.inl a3), some (.inl a4), some (.inl 0), some (.inl 1), some (.inl a7), some (.inl (σ.2 524 0 ((6 * a1) + a7)))]) hX dX4_findMoves_141 (Nat.le_of_ble_eq_true rfl) rfl (fun _ => ?_)
              refine ru_iinc (ls1 := [some (.inr (some (4, 0))), some (.inl a1), some (.inl a2), some (.inl a3), some (.inl a4), some (.inl 0), some (.inl 1), some (.inl (a7 + 1)), some (.inl (σ.2 524 0 ((6 * a1) + a7)))]) hX dX4_findMoves_143 rfl rfl (fun _ => ?_)
              refine ru_goto (tgt := 30) hX dX4_findMoves_146 (by decide) ?_
              exact h
          · have q25 := q
            replace h := h.1 q25
            refine ru_aload_n hX dX4_findMoves_74 rfl (fun _ => ?_)
            refine ru_iload_n hX dX4_findMoves_75 rfl (fun _ => ?_)
            refine ru_iload hX dX4_findMoves_76 rfl (fun _ => ?_)
            refine ru_iload_n hX dX4_findMoves_78 rfl (fun _ => ?_)
            exact ru_callV (as := [.inr (some (4, 0)), .inl a1, .inl a7, .inl a2]) (rest := []) hX dX4_findMoves_79 hc173 rfl (Nat.le_of_ble_eq_true rfl) (0, 0) ⟨Nat.zero_le _, Nat.zero_le _⟩ h
theorem bX4_findMoves_82 {cs ss : Nat → Option (Nat × eh_T)} {lim : Nat × Nat} {Rt : Option eh_V → eh_S → Prop} {X : eh_X} (hX : eh_Ru eh_nX eh_fl4 eh_kn4 cs ss lim Rt 2 cX4_findMoves X)  {σ : eh_S}  {a1 : Int} {a2 : Int} {a3 : Int} {a4 : Int} {o5 : Option eh_V} {a6 : Int} {a7 : Int} {a8 : Int} {s0 : Int}  (h : eh_ok σ → (-2147483648 ≤ s0 ∧ s0 < 2147483648) ∧ ((s0 = 0 → (-2147483648 ≤ a6 ∧ a6 < 2147483648) ∧ ((a6 = 0 → (-2147483648 ≤ a8 ∧ a8 < 2147483648) ∧ ((a8 = 3 → ((a8 = 2 → X 30 [some (.inr (some (4, 0))), some (.inl a1), some (.inl a2), some (.inl a3), some (.inl a4), some (.inl 1), some (.inl 1), some (.inl (a7 + 1)), some (.inl a8)] [] σ (0, 0)) ∧ (¬ a8 = 2 → X 30 [some (.inr (some (4, 0))), some (.inl a1), some (.inl a2), some (.inl a3), some (.inl a4), some (.inl 1), some (.inl 1), some (.inl (a7 + 1)), some (.inl a8)] [] σ (0, 0)))) ∧ (¬ a8 = 3 → ((a8 = 2 → X 30 [some (.inr (some (4, 0))), some (.inl a1), some (.inl a2), some (.inl a3), some (.inl a4), some (.inl 1), some (.inl 0), some (.inl (a7 + 1)), some (.inl a8)] [] σ (0, 0)) ∧ (¬ a8 = 2 → X 30 [some (.inr (some (4, 0))), some (.inl a1), some (.inl a2), some (.inl a3), some (.inl a4), some (.inl 0), some (.inl 0), some (.inl (a7 + 1)), some (.inl a8)] [] σ (0, 0)))))) ∧ (¬ a6 = 0 → (-2147483648 ≤ a8 ∧ a8 < 2147483648) ∧ ((a8 = 2 → X 30 [some (.inr (some (4, 0))), some (.inl a1), some (.inl a2), some (.inl a3), some (.inl a4), some (.inl 1), some (.inl 1), some (.inl (a7 + 1)), some (.inl a8)] [] σ (0, 0)) ∧ (¬ a8 = 2 → ((a8 = 3 → X 30 [some (.inr (some (4, 0))), some (.inl a1), some (.inl a2), some (.inl a3), some (.inl a4), some (.inl 1), some (.inl 1), some (.inl (a7 + 1)), some (.inl a8)] [] σ (0, 0)) ∧ (¬ a8 = 3 → X 30 [some (.inr (some (4, 0))), some (.inl a1), some (.inl a2), some (.inl a3), some (.inl a4), some (.inl 0), some (.inl 1), some (.inl (a7 + 1)), some (.inl a8)] [] σ (0, 0)))))))) ∧ (¬ s0 = 0 → (0 ≤ σ.1 544 0 ∧ σ.1 544 0 < 8) ∧ (-2147483648 ≤ a7 ∧ a7 < 2147483648) ∧ (-2147483648 ≤ (σ.1 544 0) + 1 ∧ (σ.1 544 0) + 1 < 2147483648) ∧ (-2147483648 ≤ a6 ∧ a6 < 2147483648) ∧ ((a6 = 0 → (-2147483648 ≤ a8 ∧ a8 < 2147483648) ∧ ((a8 = 3 → ((a8 = 2 → X 30 [some (.inr (some (4, 0))), some (.inl a1), some (.inl a2), some (.inl a3), some (.inl a4), some (.inl 1), some (.inl 1), some (.inl (a7 + 1)), some (.inl a8)] [] (eh_sV (eh_sA σ 543 0 (σ.1 544 0) a7) 544 0 ((σ.1 544 0) + 1)) (0, 0)) ∧ (¬ a8 = 2 → X 30 [some (.inr (some (4, 0))), some (.inl a1), some (.inl a2), some (.inl a3), some (.inl a4), some (.inl 1), some (.inl 1), some (.inl (a7 + 1)), some (.inl a8)] [] (eh_sV (eh_sA σ 543 0 (σ.1 544 0) a7) 544 0 ((σ.1 544 0) + 1)) (0, 0)))) ∧ (¬ a8 = 3 → ((a8 = 2 → X 30 [some (.inr (some (4, 0))), some (.inl a1), some (.inl a2), some (.inl a3), some (.inl a4), some (.inl 1), some (.inl 0), some (.inl (a7 + 1)), some (.inl a8)] [] (eh_sV (eh_sA σ 543 0 (σ.1 544 0) a7) 544 0 ((σ.1 544 0) + 1)) (0, 0)) ∧ (¬ a8 = 2 → X 30 [some (.inr (some (4, 0))), some (.inl a1), some (.inl a2), some (.inl a3), some (.inl a4), some (.inl 0), some (.inl 0), some (.inl (a7 + 1)), some (.inl a8)] [] (eh_sV (eh_sA σ 543 0 (σ.1 544 0) a7) 544 0 ((σ.1 544 0) + 1)) (0, 0)))))) ∧ (¬ a6 = 0 → (-2147483648 ≤ a8 ∧ a8 < 2147483648) ∧ ((a8 = 2 → X 30 [some (.inr (some (4, 0))), some (.inl a1), some (.inl a2), some (.inl a3), some (.inl a4), some (.inl 1), some (.inl 1), some (.inl (a7 + 1)), some (.inl a8)] [] (eh_sV (eh_sA σ 543 0 (σ.1 544 0) a7) 544 0 ((σ.1 544 0) + 1)) (0, 0)) ∧ (¬ a8 = 2 → ((a8 = 3 → X 30 [some (.inr (some (4, 0))), some (.inl a1), some (.inl a2), some (.inl a3), some (.inl a4), some (.inl 1), some (.inl 1), some (.inl (a7 + 1)), some (.inl a8)] [] (eh_sV (eh_sA σ 543 0 (σ.1 544 0) a7) 544 0 ((σ.1 544 0) + 1)) (0, 0)) ∧ (¬ a8 = 3 → X 30 [some (.inr (some (4, 0))), some (.inl a1), some (.inl a2), some (.inl a3), some (.inl a4), some (.inl 0), some (.inl 1), some (.inl (a7 + 1)), some (.inl a8)] [] (eh_sV (eh_sA σ 543 0 (σ.1 544 0) a7) 544 0 ((σ.1 544 0) + 1)) (0, 0)))))))))) : X 82 [some (.inr (some (4, 0))), some (.inl a1), some (.inl a2), some (.inl a3), some (.inl a4), o5, some (.inl a6), some (.inl a7), some (.inl a8)] [.inl s0] σ (0, 0) := by
  refine ru_ok hX (fun hok => ?_)
  replace h := h hok
  obtain ⟨k1, h⟩ := h
  refine ru_if_eq (tgt := 106) hX dX4_findMoves_82 (by decide) k1 (fun q => ?_) (fun q => ?_)
  · have q2 := q
    replace h := h.1 q2
    refine ru_iload hX dX4_findMoves_106 rfl (fun _ => ?_)
    obtain ⟨k3, h⟩ := h
    refine ru_if_ne (tgt := 117) hX dX4_findMoves_108 (by decide) k3 (fun q => ?_) (fun q => ?_)
    · have q4 := q
      replace h := h.2 q4
      refine ru_iconst hX dX4_findMoves_117 (fun _ => ?_)
      refine ru_goto (tgt := 122) hX dX4_findMoves_118 (by decide) ?_
      refine ru_istore (ls1 := [some (.inr (some (4, 0))), some (.inl a1), some (.inl a2), some (.inl a3), some (.inl a4), o5, some (.inl 1), some (.inl a7), some (.inl a8)]) hX dX4_findMoves_122 (Nat.le_of_ble_eq_true rfl) rfl (fun _ => ?_)
      refine ru_iload hX dX4_findMoves_124 rfl (fun _ => ?_)
      refine ru_iconst hX dX4_findMoves_126 (fun _ => ?_)
      obtain ⟨k5, h⟩ := h
      refine ru_icmp_eq (tgt := 136) hX dX4_findMoves_127 (by decide) k5 (by unfold eh_r; decide) (fun q => ?_) (fun q => ?_)
      · have q6 := q
        replace h := h.1 q6
        refine ru_iconst hX dX4_findMoves_136 (fun _ => ?_)
        refine ru_goto (tgt := 141) hX dX4_findMoves_137 (by decide) ?_
        refine ru_istore (ls1 := [some (.inr (some (4, 0))), some (.inl a1), some (.inl a2), some (.inl a3), some (.inl a4), some (.inl 1), some (.inl 1), some (.inl a7), some (.inl a8)]) hX dX4_findMoves_141 (Nat.le_of_ble_eq_true rfl) rfl (fun _ => ?_)
        refine ru_iinc (ls1 := [some (.inr (some (4, 0))), some (.inl a1), some (.inl a2), some (.inl a3), some (.inl a4), some (.inl 1), some (.inl 1), some (.inl (a7 + 1)), some (.inl a8)]) hX dX4_findMoves_143 rfl rfl (fun _ => ?_)
        refine ru_goto (tgt := 30) hX dX4_findMoves_146 (by decide) ?_
        exact h
      · have q7 := q
        replace h := h.2 q7
        refine ru_iload hX dX4_findMoves_130 rfl (fun _ => ?_)
        refine ru_iconst hX dX4_findMoves_132 (fun _ => ?_)
        refine ru_icmp_ne (tgt := 140) hX dX4_findMoves_133 (by decide) k5 (by unfold eh_r; decide) (fun q => ?_) (fun q => ?_)
        · have q8 := q
          replace h := h.2 q8
          refine ru_iconst hX dX4_findMoves_140 (fun _ => ?_)
          refine ru_istore (ls1 := [some (.inr (some (4, 0))), some (.inl a1), some (.inl a2), some (.inl a3), some (.inl a4), some (.inl 0), some (.inl 1), some (.inl a7), some (.inl a8)]) hX dX4_findMoves_141 (Nat.le_of_ble_eq_true rfl) rfl (fun _ => ?_)
          refine ru_iinc (ls1 := [some (.inr (some (4, 0))), some (.inl a1), some (.inl a2), some (.inl a3), some (.inl a4), some (.inl 0), some (.inl 1), some (.inl (a7 + 1)), some (.inl a8)]) hX dX4_findMoves_143 rfl rfl (fun _ => ?_)
          refine ru_goto (tgt := 30) hX dX4_findMoves_146 (by decide) ?_
          exact h
        · have q9 := q
          replace h := h.1 q9
          refine ru_iconst hX dX4_findMoves_136 (fun _ => ?_)
          refine ru_goto (tgt := 141) hX dX4_findMoves_137 (by decide) ?_
          refine ru_istore (ls1 := [some (.inr (some (4, 0))), some (.inl a1), some (.inl a2), some (.inl a3), some (.inl a4), some (.inl 1), some (.inl 1), some (.inl a7), some (.inl a8)]) hX dX4_findMoves_141 (Nat.le_of_ble_eq_true rfl) rfl (fun _ => ?_)
          refine ru_iinc (ls1 := [some (.inr (some (4, 0))), some (.inl a1), some (.inl a2), some (.inl a3), some (.inl a4), some (.inl 1), some (.inl 1), some (.inl (a7 + 1)), some (.inl a8)]) hX dX4_findMoves_143 rfl rfl (fun _ => ?_)
          refine ru_goto (tgt := 30) hX dX4_findMoves_146 (by decide) ?_
          exact h
    · have q10 := q
      replace h := h.1 q10
      refine ru_iload hX dX4_findMoves_111 rfl (fun _ => ?_)
      refine ru_iconst hX dX4_findMoves_113 (fun _ => ?_)
      obtain ⟨k11, h⟩ := h
      refine ru_icmp_ne (tgt := 121) hX dX4_findMoves_114 (by decide) k11 (by unfold eh_r; decide) (fun q => ?_) (fun q => ?_)
      · have q12 := q
        replace h := h.2 q12
        refine ru_iconst hX dX4_findMoves_121 (fun _ => ?_)
        refine ru_istore (ls1 := [some (.inr (some (4, 0))), some (.inl a1), some (.inl a2), some (.inl a3), some (.inl a4), o5, some (.inl 0), some (.inl a7), some (.inl a8)]) hX dX4_findMoves_122 (Nat.le_of_ble_eq_true rfl) rfl (fun _ => ?_)
        refine ru_iload hX dX4_findMoves_124 rfl (fun _ => ?_)
        refine ru_iconst hX dX4_findMoves_126 (fun _ => ?_)
        refine ru_icmp_eq (tgt := 136) hX dX4_findMoves_127 (by decide) k11 (by unfold eh_r; decide) (fun q => ?_) (fun q => ?_)
        · have q13 := q
          replace h := h.1 q13
          refine ru_iconst hX dX4_findMoves_136 (fun _ => ?_)
          refine ru_goto (tgt := 141) hX dX4_findMoves_137 (by decide) ?_
          refine ru_istore (ls1 := [some (.inr (some (4, 0))), some (.inl a1), some (.inl a2), some (.inl a3), some (.inl a4), some (.inl 1), some (.inl 0), some (.inl a7), some (.inl a8)]) hX dX4_findMoves_141 (Nat.le_of_ble_eq_true rfl) rfl (fun _ => ?_)
          refine ru_iinc (ls1 := [some (.inr (some (4, 0))), some (.inl a1), some (.inl a2), some (.inl a3), some (.inl a4), some (.inl 1), some (.inl 0), some (.inl (a7 + 1)), some (.inl a8)]) hX dX4_findMoves_143 rfl rfl (fun _ => ?_)
          refine ru_goto (tgt := 30) hX dX4_findMoves_146 (by decide) ?_
          exact h
        · have q14 := q
          replace h := h.2 q14
          refine ru_iload hX dX4_findMoves_130 rfl (fun _ => ?_)
          refine ru_iconst hX dX4_findMoves_132 (fun _ => ?_)
          refine ru_icmp_ne (tgt := 140) hX dX4_findMoves_133 (by decide) k11 (by unfold eh_r; decide) (fun q => ?_) (fun q => ?_)
          rotate_left
          · exact absurd q q12
          clear q
          refine ru_iconst hX dX4_findMoves_140 (fun _ => ?_)
          refine ru_istore (ls1 := [some (.inr (some (4, 0))), some (.inl a1), some (.inl a2), some (.inl a3), some (.inl a4), some (.inl 0), some (.inl 0), some (.inl a7), some (.inl a8)]) hX dX4_findMoves_141 (Nat.le_of_ble_eq_true rfl) rfl (fun _ => ?_)
          refine ru_iinc (ls1 := [some (.inr (some (4, 0))), some (.inl a1), some (.inl a2), some (.inl a3), some (.inl a4), some (.inl 0), some (.inl 0), some (.inl (a7 + 1)), some (.inl a8)]) hX dX4_findMoves_143 rfl rfl (fun _ => ?_)
          refine ru_goto (tgt := 30) hX dX4_findMoves_146 (by decide) ?_
          exact h
      · have q15 := q
        replace h := h.1 q15
        refine ru_iconst hX dX4_findMoves_117 (fun _ => ?_)
        refine ru_goto (tgt := 122) hX dX4_findMoves_118 (by decide) ?_
        refine ru_istore (ls1 := [some (.inr (some (4, 0))), some (.inl a1), some (.inl a2), some (.inl a3), some (.inl a4), o5, some (.inl 1), some (.inl a7), some (.inl a8)]) hX dX4_findMoves_122 (Nat.le_of_ble_eq_true rfl) rfl (fun _ => ?_)
        refine ru_iload hX dX4_findMoves_124 rfl (fun _ => ?_)
        refine ru_iconst hX dX4_findMoves_126 (fun _ => ?_)
        refine ru_icmp_eq (tgt := 136) hX dX4_findMoves_127 (by decide) k11 (by unfold eh_r; decide) (fun q => ?_) (fun q => ?_)
        · have q16 := q
          replace h := h.1 q16
          refine ru_iconst hX dX4_findMoves_136 (fun _ => ?_)
          refine ru_goto (tgt := 141) hX dX4_findMoves_137 (by decide) ?_
          refine ru_istore (ls1 := [some (.inr (some (4, 0))), some (.inl a1), some (.inl a2), some (.inl a3), some (.inl a4), some (.inl 1), some (.inl 1), some (.inl a7), some (.inl a8)]) hX dX4_findMoves_141 (Nat.le_of_ble_eq_true rfl) rfl (fun _ => ?_)
          refine ru_iinc (ls1 := [some (.inr (some (4, 0))), some (.inl a1), some (.inl a2), some (.inl a3), some (.inl a4), some (.inl 1), some (.inl 1), some (.inl (a7 + 1)), some (.inl a8)]) hX dX4_findMoves_143 rfl rfl (fun _ => ?_)
          refine ru_goto (tgt := 30) hX dX4_findMoves_146 (by decide) ?_
          exact h
        · have q17 := q
          replace h := h.2 q17
          refine ru_iload hX dX4_findMoves_130 rfl (fun _ => ?_)
          refine ru_iconst hX dX4_findMoves_132 (fun _ => ?_)
          refine ru_icmp_ne (tgt := 140) hX dX4_findMoves_133 (by decide) k11 (by unfold eh_r; decide) (fun q => ?_) (fun q => ?_)
          · exact absurd q15 q
          clear q
          refine ru_iconst hX dX4_findMoves_136 (fun _ => ?_)
          refine ru_goto (tgt := 141) hX dX4_findMoves_137 (by decide) ?_
          refine ru_istore (ls1 := [some (.inr (some (4, 0))), some (.inl a1), some (.inl a2), some (.inl a3), some (.inl a4), some (.inl 1), some (.inl 1), some (.inl a7), some (.inl a8)]) hX dX4_findMoves_141 (Nat.le_of_ble_eq_true rfl) rfl (fun _ => ?_)
          refine ru_iinc (ls1 := [some (.inr (some (4, 0))), some (.inl a1), some (.inl a2), some (.inl a3), some (.inl a4), some (.inl 1), some (.inl 1), some (.inl (a7 + 1)), some (.inl a8)]) hX dX4_findMoves_143 rfl rfl (fun _ => ?_)
          refine ru_goto (tgt := 30) hX dX4_findMoves_146 (by decide) ?_
          exact h
  · have q18 := q
    replace h := h.2 q18
    refine ru_aload_n hX dX4_findMoves_85 rfl (fun _ => ?_)
    refine ru_get (v := .inr (some (543, 0))) hX dX4_findMoves_86 rfl ⟨by decide, by decide⟩ rfl (fun _ => ?_)
    refine ru_aload_n hX dX4_findMoves_89 rfl (fun _ => ?_)
    refine ru_get (v := .inl (σ.1 544 0)) hX dX4_findMoves_90 rfl ⟨by decide, by decide⟩ rfl (fun _ => ?_)
    refine ru_iload hX dX4_findMoves_93 rfl (fun _ => ?_)
    obtain ⟨k19, h⟩ := h
    obtain ⟨k20, h⟩ := h
    refine ru_iastore hX dX4_findMoves_95 ⟨by decide, by decide⟩ rfl k19 k20 (fun _ => ?_)
    refine ru_aload_n hX dX4_findMoves_96 rfl (fun hok21 => ?_)
    refine ru_dup hX dX4_findMoves_97 (fun _ => ?_)
    refine ru_get (v := .inl (σ.1 544 0)) hX dX4_findMoves_98 rfl ⟨by decide, by decide⟩ rfl (fun _ => ?_)
    refine ru_iconst hX dX4_findMoves_101 (fun _ => ?_)
    refine ru_iadd hX dX4_findMoves_102 (fun _ => ?_)
    obtain ⟨k22, h⟩ := h
    refine ru_putI (id := 544) hX dX4_findMoves_103 rfl ⟨by decide, by decide⟩ rfl k22 rfl (fun _ => ?_)
    refine ru_iload hX dX4_findMoves_106 rfl (fun hok23 => ?_)
    obtain ⟨k24, h⟩ := h
    refine ru_if_ne (tgt := 117) hX dX4_findMoves_108 (by decide) k24 (fun q => ?_) (fun q => ?_)
    · have q25 := q
      replace h := h.2 q25
      refine ru_iconst hX dX4_findMoves_117 (fun _ => ?_)
      refine ru_goto (tgt := 122) hX dX4_findMoves_118 (by decide) ?_
      refine ru_istore (ls1 := [some (.inr (some (4, 0))), some (.inl a1), some (.inl a2), some (.inl a3), some (.inl a4), o5, some (.inl 1), some (.inl a7), some (.inl a8)]) hX dX4_findMoves_122 (Nat.le_of_ble_eq_true rfl) rfl (fun _ => ?_)
      refine ru_iload hX dX4_findMoves_124 rfl (fun _ => ?_)
      refine ru_iconst hX dX4_findMoves_126 (fun _ => ?_)
      obtain ⟨k26, h⟩ := h
      refine ru_icmp_eq (tgt := 136) hX dX4_findMoves_127 (by decide) k26 (by unfold eh_r; decide) (fun q => ?_) (fun q => ?_)
      · have q27 := q
        replace h := h.1 q27
        refine ru_iconst hX dX4_findMoves_136 (fun _ => ?_)
        refine ru_goto (tgt := 141) hX dX4_findMoves_137 (by decide) ?_
        refine ru_istore (ls1 := [some (.inr (some (4, 0))), some (.inl a1), some (.inl a2), some (.inl a3), some (.inl a4), some (.inl 1), some (.inl 1), some (.inl a7), some (.inl a8)]) hX dX4_findMoves_141 (Nat.le_of_ble_eq_true rfl) rfl (fun _ => ?_)
        refine ru_iinc (ls1 := [some (.inr (some (4, 0))), some (.inl a1), some (.inl a2), some (.inl a3), some (.inl a4), some (.inl 1), some (.inl 1), some (.inl (a7 + 1)), some (.inl a8)]) hX dX4_findMoves_143 rfl rfl (fun _ => ?_)
        refine ru_goto (tgt := 30) hX dX4_findMoves_146 (by decide) ?_
        exact h
      · have q28 := q
        replace h := h.2 q28
        refine ru_iload hX dX4_findMoves_130 rfl (fun _ => ?_)
        refine ru_iconst hX dX4_findMoves_132 (fun _ => ?_)
        refine ru_icmp_ne (tgt := 140) hX dX4_findMoves_133 (by decide) k26 (by unfold eh_r; decide) (fun q => ?_) (fun q => ?_)
        · have q29 := q
          replace h := h.2 q29
          refine ru_iconst hX dX4_findMoves_140 (fun _ => ?_)
          refine ru_istore (ls1 := [some (.inr (some (4, 0))), some (.inl a1), some (.inl a2), some (.inl a3), some (.inl a4), some (.inl 0), some (.inl 1), some (.inl a7), some (.inl a8)]) hX dX4_findMoves_141 (Nat.le_of_ble_eq_true rfl) rfl (fun _ => ?_)
          refine ru_iinc (ls1 := [some (.inr (some (4, 0))), some (.inl a1), some (.inl a2), some (.inl a3), some (.inl a4), some (.inl 0), some (.inl 1), some (.inl (a7 + 1)), some (.inl a8)]) hX dX4_findMoves_143 rfl rfl (fun _ => ?_)
          refine ru_goto (tgt := 30) hX dX4_findMoves_146 (by decide) ?_
          exact h
        · have q30 := q
          replace h := h.1 q30
          refine ru_iconst hX dX4_findMoves_136 (fun _ => ?_)
          refine ru_goto (tgt := 141) hX dX4_findMoves_137 (by decide) ?_
          refine ru_istore (ls1 := [some (.inr (some (4, 0))), some (.inl a1), some (.inl a2), some (.inl a3), some (.inl a4), some (.inl 1), some (.inl 1), some (.inl a7), some (.inl a8)]) hX dX4_findMoves_141 (Nat.le_of_ble_eq_true rfl) rfl (fun _ => ?_)
          refine ru_iinc (ls1 := [some (.inr (some (4, 0))), some (.inl a1), some (.inl a2), some (.inl a3), some (.inl a4), some (.inl 1), some (.inl 1), some (.inl (a7 + 1)), some (.inl a8)]) hX dX4_findMoves_143 rfl rfl (fun _ => ?_)
          refine ru_goto (tgt := 30) hX dX4_findMoves_146 (by decide) ?_
          exact h
    · have q31 := q
      replace h := h.1 q31
      refine ru_iload hX dX4_findMoves_111 rfl (fun _ => ?_)
      refine ru_iconst hX dX4_findMoves_113 (fun _ => ?_)
      obtain ⟨k32, h⟩ := h
      refine ru_icmp_ne (tgt := 121) hX dX4_findMoves_114 (by decide) k32 (by unfold eh_r; decide) (fun q => ?_) (fun q => ?_)
      · have q33 := q
        replace h := h.2 q33
        refine ru_iconst hX dX4_findMoves_121 (fun _ => ?_)
        refine ru_istore (ls1 := [some (.inr (some (4, 0))), some (.inl a1), some (.inl a2), some (.inl a3), some (.inl a4), o5, some (.inl 0), some (.inl a7), some (.inl a8)]) hX dX4_findMoves_122 (Nat.le_of_ble_eq_true rfl) rfl (fun _ => ?_)
        refine ru_iload hX dX4_findMoves_124 rfl (fun _ => ?_)
        refine ru_iconst hX dX4_findMoves_126 (fun _ => ?_)
        refine ru_icmp_eq (tgt := 136) hX dX4_findMoves_127 (by decide) k32 (by unfold eh_r; decide) (fun q => ?_) (fun q => ?_)
        · have q34 := q
          replace h := h.1 q34
          refine ru_iconst hX dX4_findMoves_136 (fun _ => ?_)
          refine ru_goto (tgt := 141) hX dX4_findMoves_137 (by decide) ?_
          refine ru_istore (ls1 := [some (.inr (some (4, 0))), some (.inl a1), some (.inl a2), some (.inl a3), some (.inl a4), some (.inl 1), some (.inl 0), some (.inl a7), some (.inl a8)]) hX dX4_findMoves_141 (Nat.le_of_ble_eq_true rfl) rfl (fun _ => ?_)
          refine ru_iinc (ls1 := [some (.inr (some (4, 0))), some (.inl a1), some (.inl a2), some (.inl a3), some (.inl a4), some (.inl 1), some (.inl 0), some (.inl (a7 + 1)), some (.inl a8)]) hX dX4_findMoves_143 rfl rfl (fun _ => ?_)
          refine ru_goto (tgt := 30) hX dX4_findMoves_146 (by decide) ?_
          exact h
        · have q35 := q
          replace h := h.2 q35
          refine ru_iload hX dX4_findMoves_130 rfl (fun _ => ?_)
          refine ru_iconst hX dX4_findMoves_132 (fun _ => ?_)
          refine ru_icmp_ne (tgt := 140) hX dX4_findMoves_133 (by decide) k32 (by unfold eh_r; decide) (fun q => ?_) (fun q => ?_)
          rotate_left
          · exact absurd q q33
          clear q
          refine ru_iconst hX dX4_findMoves_140 (fun _ => ?_)
          refine ru_istore (ls1 := [some (.inr (some (4, 0))), some (.inl a1), some (.inl a2), some (.inl a3), some (.inl a4), some (.inl 0), some (.inl 0), some (.inl a7), some (.inl a8)]) hX dX4_findMoves_141 (Nat.le_of_ble_eq_true rfl) rfl (fun _ => ?_)
          refine ru_iinc (ls1 := [some (.inr (some (4, 0))), some (.inl a1), some (.inl a2), some (.inl a3), some (.inl a4), some (.inl 0), some (.inl 0), some (.inl (a7 + 1)), some (.inl a8)]) hX dX4_findMoves_143 rfl rfl (fun _ => ?_)
          refine ru_goto (tgt := 30) hX dX4_findMoves_146 (by decide) ?_
          exact h
      · have q36 := q
        replace h := h.1 q36
        refine ru_iconst hX dX4_findMoves_117 (fun _ => ?_)
        refine ru_goto (tgt := 122) hX dX4_findMoves_118 (by decide) ?_
        refine ru_istore (ls1 := [some (.inr (some (4, 0))), some (.inl a1), some (.inl a2), some (.inl a3), some (.inl a4), o5, some (.inl 1), some (.inl a7), some (.inl a8)]) hX dX4_findMoves_122 (Nat.le_of_ble_eq_true rfl) rfl (fun _ => ?_)
        refine ru_iload hX dX4_findMoves_124 rfl (fun _ => ?_)
        refine ru_iconst hX dX4_findMoves_126 (fun _ => ?_)
        refine ru_icmp_eq (tgt := 136) hX dX4_findMoves_127 (by decide) k32 (by unfold eh_r; decide) (fun q => ?_) (fun q => ?_)
        · have q37 := q
          replace h := h.1 q37
          refine ru_iconst hX dX4_findMoves_136 (fun _ => ?_)
          refine ru_goto (tgt := 141) hX dX4_findMoves_137 (by decide) ?_
          refine ru_istore (ls1 := [some (.inr (some (4, 0))), some (.inl a1), some (.inl a2), some (.inl a3), some (.inl a4), some (.inl 1), some (.inl 1), some (.inl a7), some (.inl a8)]) hX dX4_findMoves_141 (Nat.le_of_ble_eq_true rfl) rfl (fun _ => ?_)
          refine ru_iinc (ls1 := [some (.inr (some (4, 0))), some (.inl a1), some (.inl a2), some (.inl a3), some (.inl a4), some (.inl 1), some (.inl 1), some (.inl (a7 + 1)), some (.inl a8)]) hX dX4_findMoves_143 rfl rfl (fun _ => ?_)
          refine ru_goto (tgt := 30) hX dX4_findMoves_146 (by decide) ?_
          exact h
        · have q38 := q
          replace h := h.2 q38
          refine ru_iload hX dX4_findMoves_130 rfl (fun _ => ?_)
          refine ru_iconst hX dX4_findMoves_132 (fun _ => ?_)
          refine ru_icmp_ne (tgt := 140) hX dX4_findMoves_133 (by decide) k32 (by unfold eh_r; decide) (fun q => ?_) (fun q => ?_)
          · exact absurd q36 q
          clear q
          refine ru_iconst hX dX4_findMoves_136 (fun _ => ?_)
          refine ru_goto (tgt := 141) hX dX4_findMoves_137 (by decide) ?_
          refine ru_istore (ls1 := [some (.inr (some (4, 0))), some (.inl a1), some (.inl a2), some (.inl a3), some (.inl a4), some (.inl 1), some (.inl 1), some (.inl a7), some (.inl a8)]) hX dX4_findMoves_141 (Nat.le_of_ble_eq_true rfl) rfl (fun _ => ?_)
          refine ru_iinc (ls1 := [some (.inr (some (4, 0))), some (.inl a1), some (.inl a2), some (.inl a3), some (.inl a4), some (.inl 1), some (.inl 1), some (.inl (a7 + 1)), some (.inl a8)]) hX dX4_findMoves_143 rfl rfl (fun _ => ?_)
          refine ru_goto (tgt := 30) hX dX4_findMoves_146 (by decide) ?_
          exact h
theorem bX4_findMoves_155 {cs ss : Nat → Option (Nat × eh_T)} {lim : Nat × Nat} {Rt : Option eh_V → eh_S → Prop} {X : eh_X} (hX : eh_Ru eh_nX eh_fl4 eh_kn4 cs ss lim Rt 2 cX4_findMoves X) {T173 : eh_T} (hc173 : cs 173 = some (4, T173)) {σ : eh_S}  {a1 : Int} {a2 : Int} {o3 : Option eh_V} {a4 : Int} {o5 : Option eh_V} {o6 : Option eh_V} {a7 : Int} {a8 : Int}  (h : eh_ok σ → (-2147483648 ≤ a8 ∧ a8 < 2147483648) ∧ ((σ.1 542 0 ≤ a8 → (0 ≤ (6 * a1) + a4 ∧ (6 * a1) + a4 < 48) ∧ ((σ.2 524 0 ((6 * a1) + a4) = 1 → (-2147483648 ≤ a7 ∧ a7 < 2147483648) ∧ ((4 ≤ a7 → Rt none σ) ∧ (¬ 4 ≤ a7 → T173 [.inr (some (4, 0)), .inl a1, .inl a4, .inl a2] σ (0, 0) (fun r σ1 => X 222 [some (.inr (some (4, 0))), some (.inl a1), some (.inl a2), o3, some (.inl a4), o5, o6, some (.inl a7), some (.inl a8)] (r.toList ++ []) σ1 (0, 0))))) ∧ (¬ σ.2 524 0 ((6 * a1) + a4) = 1 → Rt none σ))) ∧ (¬ σ.1 542 0 ≤ a8 → (0 ≤ a8 ∧ a8 < 25) ∧ (-2147483648 ≤ a4 ∧ a4 < 2147483648) ∧ ((σ.2 541 0 a8 = a4 → X 155 [some (.inr (some (4, 0))), some (.inl a1), some (.inl a2), o3, some (.inl a4), o5, o6, some (.inl (a7 + 1)), some (.inl (a8 + 1))] [] σ (0, 0)) ∧ (¬ σ.2 541 0 a8 = a4 → X 155 [some (.inr (some (4, 0))), some (.inl a1), some (.inl a2), o3, some (.inl a4), o5, o6, some (.inl (a7 + 0)), some (.inl (a8 + 1))] [] σ (0, 0)))))) : X 155 [some (.inr (some (4, 0))), some (.inl a1), some (.inl a2), o3, some (.inl a4), o5, o6, some (.inl a7), some (.inl a8)] [] σ (0, 0) := by
  refine ru_ok hX (fun hok => ?_)
  replace h := h hok
  refine ru_iload hX dX4_findMoves_155 rfl (fun _ => ?_)
  refine ru_aload_n hX dX4_findMoves_157 rfl (fun _ => ?_)
  refine ru_get (v := .inl (σ.1 542 0)) hX dX4_findMoves_158 rfl ⟨by decide, by decide⟩ rfl (fun _ => ?_)
  obtain ⟨k1, h⟩ := h
  refine ru_icmp_ge (tgt := 192) hX dX4_findMoves_161 (by decide) k1 (hok.1 _ _) (fun q => ?_) (fun q => ?_)
  · have q2 := q
    replace h := h.1 q2
    refine ru_aload_n hX dX4_findMoves_192 rfl (fun _ => ?_)
    refine ru_get (v := .inr (some (524, 0))) hX dX4_findMoves_193 rfl ⟨by decide, by decide⟩ rfl (fun _ => ?_)
    refine ru_bipush hX dX4_findMoves_196 (by decide) (fun _ => ?_)
    refine ru_iload_n hX dX4_findMoves_198 rfl (fun _ => ?_)
    refine ru_imul hX dX4_findMoves_199 (fun _ => ?_)
    refine ru_iload hX dX4_findMoves_200 rfl (fun _ => ?_)
    refine ru_iadd hX dX4_findMoves_202 (fun _ => ?_)
    obtain ⟨k3, h⟩ := h
    refine ru_iaload hX dX4_findMoves_203 ⟨by decide, by decide⟩ rfl k3 (fun _ => ?_)
    refine ru_iconst hX dX4_findMoves_204 (fun _ => ?_)
    refine ru_icmp_ne (tgt := 246) hX dX4_findMoves_205 (by decide) (hok.2 _ _ _ (by decide) (by decide) (by decide) (by decide)) (by unfold eh_r; decide) (fun q => ?_) (fun q => ?_)
    · have q4 := q
      replace h := h.2 q4
      exact ru_return hX dX4_findMoves_246 rfl ⟨Nat.zero_le _, Nat.zero_le _⟩ (fun _ => h)
    · have q5 := q
      replace h := h.1 q5
      refine ru_iload hX dX4_findMoves_208 rfl (fun _ => ?_)
      refine ru_iconst hX dX4_findMoves_210 (fun _ => ?_)
      obtain ⟨k6, h⟩ := h
      refine ru_icmp_ge (tgt := 246) hX dX4_findMoves_211 (by decide) k6 (by unfold eh_r; decide) (fun q => ?_) (fun q => ?_)
      · have q7 := q
        replace h := h.1 q7
        exact ru_return hX dX4_findMoves_246 rfl ⟨Nat.zero_le _, Nat.zero_le _⟩ (fun _ => h)
      · have q8 := q
        replace h := h.2 q8
        refine ru_aload_n hX dX4_findMoves_214 rfl (fun _ => ?_)
        refine ru_iload_n hX dX4_findMoves_215 rfl (fun _ => ?_)
        refine ru_iload hX dX4_findMoves_216 rfl (fun _ => ?_)
        refine ru_iload_n hX dX4_findMoves_218 rfl (fun _ => ?_)
        exact ru_callV (as := [.inr (some (4, 0)), .inl a1, .inl a4, .inl a2]) (rest := []) hX dX4_findMoves_219 hc173 rfl (Nat.le_of_ble_eq_true rfl) (0, 0) ⟨Nat.zero_le _, Nat.zero_le _⟩ h
  · have q9 := q
    replace h := h.2 q9
    refine ru_iload hX dX4_findMoves_164 rfl (fun _ => ?_)
    refine ru_aload_n hX dX4_findMoves_166 rfl (fun _ => ?_)
    refine ru_get (v := .inr (some (541, 0))) hX dX4_findMoves_167 rfl ⟨by decide, by decide⟩ rfl (fun _ => ?_)
    refine ru_iload hX dX4_findMoves_170 rfl (fun _ => ?_)
    obtain ⟨k10, h⟩ := h
    refine ru_iaload hX dX4_findMoves_172 ⟨by decide, by decide⟩ rfl k10 (fun _ => ?_)
    refine ru_iload hX dX4_findMoves_173 rfl (fun _ => ?_)
    obtain ⟨k11, h⟩ := h
    refine ru_icmp_ne (tgt := 182) hX dX4_findMoves_175 (by decide) (hok.2 _ _ _ (by decide) (by decide) (by decide) (by decide)) k11 (fun q => ?_) (fun q => ?_)
    · have q12 := q
      replace h := h.2 q12
      refine ru_iconst hX dX4_findMoves_182 (fun _ => ?_)
      refine ru_iadd hX dX4_findMoves_183 (fun _ => ?_)
      refine ru_istore (ls1 := [some (.inr (some (4, 0))), some (.inl a1), some (.inl a2), o3, some (.inl a4), o5, o6, some (.inl (a7 + 0)), some (.inl a8)]) hX dX4_findMoves_184 (Nat.le_of_ble_eq_true rfl) rfl (fun _ => ?_)
      refine ru_iinc (ls1 := [some (.inr (some (4, 0))), some (.inl a1), some (.inl a2), o3, some (.inl a4), o5, o6, some (.inl (a7 + 0)), some (.inl (a8 + 1))]) hX dX4_findMoves_186 rfl rfl (fun _ => ?_)
      refine ru_goto (tgt := 155) hX dX4_findMoves_189 (by decide) ?_
      exact h
    · have q13 := q
      replace h := h.1 q13
      refine ru_iconst hX dX4_findMoves_178 (fun _ => ?_)
      refine ru_goto (tgt := 183) hX dX4_findMoves_179 (by decide) ?_
      refine ru_iadd hX dX4_findMoves_183 (fun _ => ?_)
      refine ru_istore (ls1 := [some (.inr (some (4, 0))), some (.inl a1), some (.inl a2), o3, some (.inl a4), o5, o6, some (.inl (a7 + 1)), some (.inl a8)]) hX dX4_findMoves_184 (Nat.le_of_ble_eq_true rfl) rfl (fun _ => ?_)
      refine ru_iinc (ls1 := [some (.inr (some (4, 0))), some (.inl a1), some (.inl a2), o3, some (.inl a4), o5, o6, some (.inl (a7 + 1)), some (.inl (a8 + 1))]) hX dX4_findMoves_186 rfl rfl (fun _ => ?_)
      refine ru_goto (tgt := 155) hX dX4_findMoves_189 (by decide) ?_
      exact h
theorem bX4_findMoves_222 {cs ss : Nat → Option (Nat × eh_T)} {lim : Nat × Nat} {Rt : Option eh_V → eh_S → Prop} {X : eh_X} (hX : eh_Ru eh_nX eh_fl4 eh_kn4 cs ss lim Rt 2 cX4_findMoves X)  {σ : eh_S}  {o1 : Option eh_V} {o2 : Option eh_V} {o3 : Option eh_V} {a4 : Int} {o5 : Option eh_V} {o6 : Option eh_V} {o7 : Option eh_V} {o8 : Option eh_V} {s0 : Int}  (h : eh_ok σ → (-2147483648 ≤ s0 ∧ s0 < 2147483648) ∧ ((s0 = 0 → Rt none σ) ∧ (¬ s0 = 0 → (0 ≤ σ.1 544 0 ∧ σ.1 544 0 < 8) ∧ (-2147483648 ≤ a4 ∧ a4 < 2147483648) ∧ (-2147483648 ≤ (σ.1 544 0) + 1 ∧ (σ.1 544 0) + 1 < 2147483648) ∧ Rt none (eh_sV (eh_sA σ 543 0 (σ.1 544 0) a4) 544 0 ((σ.1 544 0) + 1))))) : X 222 [some (.inr (some (4, 0))), o1, o2, o3, some (.inl a4), o5, o6, o7, o8] [.inl s0] σ (0, 0) := by
  refine ru_ok hX (fun hok => ?_)
  replace h := h hok
  obtain ⟨k1, h⟩ := h
  refine ru_if_eq (tgt := 246) hX dX4_findMoves_222 (by decide) k1 (fun q => ?_) (fun q => ?_)
  · have q2 := q
    replace h := h.1 q2
    exact ru_return hX dX4_findMoves_246 rfl ⟨Nat.zero_le _, Nat.zero_le _⟩ (fun _ => h)
  · have q3 := q
    replace h := h.2 q3
    refine ru_aload_n hX dX4_findMoves_225 rfl (fun _ => ?_)
    refine ru_get (v := .inr (some (543, 0))) hX dX4_findMoves_226 rfl ⟨by decide, by decide⟩ rfl (fun _ => ?_)
    refine ru_aload_n hX dX4_findMoves_229 rfl (fun _ => ?_)
    refine ru_get (v := .inl (σ.1 544 0)) hX dX4_findMoves_230 rfl ⟨by decide, by decide⟩ rfl (fun _ => ?_)
    refine ru_iload hX dX4_findMoves_233 rfl (fun _ => ?_)
    obtain ⟨k4, h⟩ := h
    obtain ⟨k5, h⟩ := h
    refine ru_iastore hX dX4_findMoves_235 ⟨by decide, by decide⟩ rfl k4 k5 (fun _ => ?_)
    refine ru_aload_n hX dX4_findMoves_236 rfl (fun hok6 => ?_)
    refine ru_dup hX dX4_findMoves_237 (fun _ => ?_)
    refine ru_get (v := .inl (σ.1 544 0)) hX dX4_findMoves_238 rfl ⟨by decide, by decide⟩ rfl (fun _ => ?_)
    refine ru_iconst hX dX4_findMoves_241 (fun _ => ?_)
    refine ru_iadd hX dX4_findMoves_242 (fun _ => ?_)
    obtain ⟨k7, h⟩ := h
    refine ru_putI (id := 544) hX dX4_findMoves_243 rfl ⟨by decide, by decide⟩ rfl k7 rfl (fun _ => ?_)
    exact ru_return hX dX4_findMoves_246 rfl ⟨Nat.zero_le _, Nat.zero_le _⟩ (fun _ => h)
theorem bX4_real_0 {cs ss : Nat → Option (Nat × eh_T)} {lim : Nat × Nat} {Rt : Option eh_V → eh_S → Prop} {X : eh_X} (hX : eh_Ru eh_nX eh_fl4 eh_kn4 cs ss lim Rt 0 cX4_real X)  {σ : eh_S}  {a1 : Int}  (h : eh_ok σ → (0 ≤ a1 ∧ a1 < 8) ∧ ((σ.2 519 0 a1 ≤ 0 → Rt (some (.inl (σ.2 519 0 a1))) σ) ∧ (¬ σ.2 519 0 a1 ≤ 0 → (0 ≤ ((6 * a1) + (σ.2 519 0 a1)) - 1 ∧ ((6 * a1) + (σ.2 519 0 a1)) - 1 < 48) ∧ ((σ.2 524 0 (((6 * a1) + (σ.2 519 0 a1)) - 1) = 3 → Rt (some (.inl ((σ.2 519 0 a1) - 1))) σ) ∧ (¬ σ.2 524 0 (((6 * a1) + (σ.2 519 0 a1)) - 1) = 3 → Rt (some (.inl (σ.2 519 0 a1))) σ))))) : X 0 [some (.inr (some (4, 0))), some (.inl a1)] [] σ (0, 0) := by
  refine ru_ok hX (fun hok => ?_)
  replace h := h hok
  refine ru_aload_n hX dX4_real_0 rfl (fun _ => ?_)
  refine ru_get (v := .inr (some (519, 0))) hX dX4_real_1 rfl ⟨by decide, by decide⟩ rfl (fun _ => ?_)
  refine ru_iload_n hX dX4_real_4 rfl (fun _ => ?_)
  obtain ⟨k1, h⟩ := h
  refine ru_iaload hX dX4_real_5 ⟨by decide, by decide⟩ rfl k1 (fun _ => ?_)
  refine ru_if_le (tgt := 42) hX dX4_real_6 (by decide) (hok.2 _ _ _ (by decide) (by decide) (by decide) (by decide)) (fun q => ?_) (fun q => ?_)
  · have q2 := q
    replace h := h.1 q2
    refine ru_aload_n hX dX4_real_42 rfl (fun _ => ?_)
    refine ru_get (v := .inr (some (519, 0))) hX dX4_real_43 rfl ⟨by decide, by decide⟩ rfl (fun _ => ?_)
    refine ru_iload_n hX dX4_real_46 rfl (fun _ => ?_)
    refine ru_iaload hX dX4_real_47 ⟨by decide, by decide⟩ rfl k1 (fun _ => ?_)
    exact ru_ireturn hX dX4_real_48 (Or.inl rfl) ⟨Nat.zero_le _, Nat.zero_le _⟩ (fun _ => h)
  · have q3 := q
    replace h := h.2 q3
    refine ru_aload_n hX dX4_real_9 rfl (fun _ => ?_)
    refine ru_get (v := .inr (some (524, 0))) hX dX4_real_10 rfl ⟨by decide, by decide⟩ rfl (fun _ => ?_)
    refine ru_bipush hX dX4_real_13 (by decide) (fun _ => ?_)
    refine ru_iload_n hX dX4_real_15 rfl (fun _ => ?_)
    refine ru_imul hX dX4_real_16 (fun _ => ?_)
    refine ru_aload_n hX dX4_real_17 rfl (fun _ => ?_)
    refine ru_get (v := .inr (some (519, 0))) hX dX4_real_18 rfl ⟨by decide, by decide⟩ rfl (fun _ => ?_)
    refine ru_iload_n hX dX4_real_21 rfl (fun _ => ?_)
    refine ru_iaload hX dX4_real_22 ⟨by decide, by decide⟩ rfl k1 (fun _ => ?_)
    refine ru_iadd hX dX4_real_23 (fun _ => ?_)
    refine ru_iconst hX dX4_real_24 (fun _ => ?_)
    refine ru_isub hX dX4_real_25 (fun _ => ?_)
    obtain ⟨k4, h⟩ := h
    refine ru_iaload hX dX4_real_26 ⟨by decide, by decide⟩ rfl k4 (fun _ => ?_)
    refine ru_iconst hX dX4_real_27 (fun _ => ?_)
    refine ru_icmp_ne (tgt := 42) hX dX4_real_28 (by decide) (hok.2 _ _ _ (by decide) (by decide) (by decide) (by decide)) (by unfold eh_r; decide) (fun q => ?_) (fun q => ?_)
    · have q5 := q
      replace h := h.2 q5
      refine ru_aload_n hX dX4_real_42 rfl (fun _ => ?_)
      refine ru_get (v := .inr (some (519, 0))) hX dX4_real_43 rfl ⟨by decide, by decide⟩ rfl (fun _ => ?_)
      refine ru_iload_n hX dX4_real_46 rfl (fun _ => ?_)
      refine ru_iaload hX dX4_real_47 ⟨by decide, by decide⟩ rfl k1 (fun _ => ?_)
      exact ru_ireturn hX dX4_real_48 (Or.inl rfl) ⟨Nat.zero_le _, Nat.zero_le _⟩ (fun _ => h)
    · have q6 := q
      replace h := h.1 q6
      refine ru_aload_n hX dX4_real_31 rfl (fun _ => ?_)
      refine ru_get (v := .inr (some (519, 0))) hX dX4_real_32 rfl ⟨by decide, by decide⟩ rfl (fun _ => ?_)
      refine ru_iload_n hX dX4_real_35 rfl (fun _ => ?_)
      refine ru_iaload hX dX4_real_36 ⟨by decide, by decide⟩ rfl k1 (fun _ => ?_)
      refine ru_iconst hX dX4_real_37 (fun _ => ?_)
      refine ru_isub hX dX4_real_38 (fun _ => ?_)
      refine ru_goto (tgt := 48) hX dX4_real_39 (by decide) ?_
      exact ru_ireturn hX dX4_real_48 (Or.inl rfl) ⟨Nat.zero_le _, Nat.zero_le _⟩ (fun _ => h)
theorem bX4_fits_0 {cs ss : Nat → Option (Nat × eh_T)} {lim : Nat × Nat} {Rt : Option eh_V → eh_S → Prop} {X : eh_X} (hX : eh_Ru eh_nX eh_fl4 eh_kn4 cs ss lim Rt 1 cX4_fits X) {T157 : eh_T} (hc157 : cs 157 = some (3, T157)) {σ : eh_S}  {a1 : Int} {a2 : Int} {a3 : Int} {o4 : Option eh_V} {o5 : Option eh_V} {o6 : Option eh_V} {o7 : Option eh_V} {o8 : Option eh_V} {o9 : Option eh_V}  (h : eh_ok σ → (0 ≤ a3 ∧ a3 < 1000) ∧ (0 ≤ (6 * a1) + a2 ∧ (6 * a1) + a2 < 48) ∧ T157 [.inr (some (4, 0)), .inl (σ.2 509 0 a3), .inl (σ.2 525 0 ((6 * a1) + a2))] σ (0, 0) (fun r σ1 => X 25 [some (.inr (some (4, 0))), some (.inl a1), some (.inl a2), some (.inl a3), some (.inl ((6 * a1) + a2)), o5, o6, o7, o8, o9] (r.toList ++ []) σ1 (0, 0))) : X 0 [some (.inr (some (4, 0))), some (.inl a1), some (.inl a2), some (.inl a3), o4, o5, o6, o7, o8, o9] [] σ (0, 0) := by
  refine ru_ok hX (fun hok => ?_)
  replace h := h hok
  refine ru_bipush hX dX4_fits_0 (by decide) (fun _ => ?_)
  refine ru_iload_n hX dX4_fits_2 rfl (fun _ => ?_)
  refine ru_imul hX dX4_fits_3 (fun _ => ?_)
  refine ru_iload_n hX dX4_fits_4 rfl (fun _ => ?_)
  refine ru_iadd hX dX4_fits_5 (fun _ => ?_)
  refine ru_istore (ls1 := [some (.inr (some (4, 0))), some (.inl a1), some (.inl a2), some (.inl a3), some (.inl ((6 * a1) + a2)), o5, o6, o7, o8, o9]) hX dX4_fits_6 (Nat.le_of_ble_eq_true rfl) rfl (fun _ => ?_)
  refine ru_aload_n hX dX4_fits_8 rfl (fun _ => ?_)
  refine ru_aload_n hX dX4_fits_9 rfl (fun _ => ?_)
  refine ru_get (v := .inr (some (509, 0))) hX dX4_fits_10 rfl ⟨by decide, by decide⟩ rfl (fun _ => ?_)
  refine ru_iload_n hX dX4_fits_13 rfl (fun _ => ?_)
  obtain ⟨k1, h⟩ := h
  refine ru_iaload hX dX4_fits_14 ⟨by decide, by decide⟩ rfl k1 (fun _ => ?_)
  refine ru_aload_n hX dX4_fits_15 rfl (fun _ => ?_)
  refine ru_get (v := .inr (some (525, 0))) hX dX4_fits_16 rfl ⟨by decide, by decide⟩ rfl (fun _ => ?_)
  refine ru_iload hX dX4_fits_19 rfl (fun _ => ?_)
  obtain ⟨k2, h⟩ := h
  refine ru_iaload hX dX4_fits_21 ⟨by decide, by decide⟩ rfl k2 (fun _ => ?_)
  exact ru_callV (as := [.inr (some (4, 0)), .inl (σ.2 509 0 a3), .inl (σ.2 525 0 ((6 * a1) + a2))]) (rest := []) hX dX4_fits_22 hc157 rfl (Nat.le_of_ble_eq_true rfl) (0, 0) ⟨Nat.zero_le _, Nat.zero_le _⟩ h
theorem bX4_fits_25 {cs ss : Nat → Option (Nat × eh_T)} {lim : Nat × Nat} {Rt : Option eh_V → eh_S → Prop} {X : eh_X} (hX : eh_Ru eh_nX eh_fl4 eh_kn4 cs ss lim Rt 1 cX4_fits X)  {σ : eh_S}  {o1 : Option eh_V} {o2 : Option eh_V} {a3 : Int} {a4 : Int} {o5 : Option eh_V} {o6 : Option eh_V} {o7 : Option eh_V} {o8 : Option eh_V} {o9 : Option eh_V} {s0 : Int}  (h : eh_ok σ → (-2147483648 ≤ s0 ∧ s0 < 2147483648) ∧ ((s0 = 0 → Rt (some (.inl 0)) σ) ∧ (¬ s0 = 0 → (0 ≤ a4 ∧ a4 < 48) ∧ ((σ.2 526 0 a4 = 0 → Rt (some (.inl 1)) σ) ∧ (¬ σ.2 526 0 a4 = 0 → (0 ≤ (4 * a3) + (σ.2 527 0 a4) ∧ (4 * a3) + (σ.2 527 0 a4) < 4000) ∧ ((σ.2 526 0 a4 ≤ 3 → ((σ.2 526 0 a4 = 1 → ((σ.2 528 0 a4 ≤ σ.2 512 0 ((4 * a3) + (σ.2 527 0 a4)) → Rt (some (.inl 0)) σ) ∧ (¬ σ.2 528 0 a4 ≤ σ.2 512 0 ((4 * a3) + (σ.2 527 0 a4)) → Rt (some (.inl 1)) σ))) ∧ (¬ σ.2 526 0 a4 = 1 → ((σ.2 526 0 a4 = 2 → ((σ.2 512 0 ((4 * a3) + (σ.2 527 0 a4)) = σ.2 528 0 a4 → Rt (some (.inl 1)) σ) ∧ (¬ σ.2 512 0 ((4 * a3) + (σ.2 527 0 a4)) = σ.2 528 0 a4 → Rt (some (.inl 0)) σ))) ∧ (¬ σ.2 526 0 a4 = 2 → ((σ.2 512 0 ((4 * a3) + (σ.2 527 0 a4)) ≤ σ.2 528 0 a4 → Rt (some (.inl 0)) σ) ∧ (¬ σ.2 512 0 ((4 * a3) + (σ.2 527 0 a4)) ≤ σ.2 528 0 a4 → Rt (some (.inl 1)) σ))))))) ∧ (¬ σ.2 526 0 a4 ≤ 3 → X 85 [some (.inr (some (4, 0))), o1, o2, some (.inl a3), some (.inl a4), some (.inl (σ.2 526 0 a4)), some (.inl (σ.2 512 0 ((4 * a3) + (σ.2 527 0 a4)))), some (.inl (σ.2 528 0 a4)), some (.inl (-1)), some (.inl 0)] [] σ (0, 0)))))))) : X 25 [some (.inr (some (4, 0))), o1, o2, some (.inl a3), some (.inl a4), o5, o6, o7, o8, o9] [.inl s0] σ (0, 0) := by
  refine ru_ok hX (fun hok => ?_)
  replace h := h hok
  obtain ⟨k1, h⟩ := h
  refine ru_if_ne (tgt := 30) hX dX4_fits_25 (by decide) k1 (fun q => ?_) (fun q => ?_)
  · have q2 := q
    replace h := h.2 q2
    refine ru_aload_n hX dX4_fits_30 rfl (fun _ => ?_)
    refine ru_get (v := .inr (some (526, 0))) hX dX4_fits_31 rfl ⟨by decide, by decide⟩ rfl (fun _ => ?_)
    refine ru_iload hX dX4_fits_34 rfl (fun _ => ?_)
    obtain ⟨k3, h⟩ := h
    refine ru_iaload hX dX4_fits_36 ⟨by decide, by decide⟩ rfl k3 (fun _ => ?_)
    refine ru_istore (ls1 := [some (.inr (some (4, 0))), o1, o2, some (.inl a3), some (.inl a4), some (.inl (σ.2 526 0 a4)), o6, o7, o8, o9]) hX dX4_fits_37 (Nat.le_of_ble_eq_true rfl) rfl (fun _ => ?_)
    refine ru_iload hX dX4_fits_39 rfl (fun _ => ?_)
    refine ru_if_ne (tgt := 46) hX dX4_fits_41 (by decide) (hok.2 _ _ _ (by decide) (by decide) (by decide) (by decide)) (fun q => ?_) (fun q => ?_)
    · have q4 := q
      replace h := h.2 q4
      refine ru_aload_n hX dX4_fits_46 rfl (fun _ => ?_)
      refine ru_get (v := .inr (some (512, 0))) hX dX4_fits_47 rfl ⟨by decide, by decide⟩ rfl (fun _ => ?_)
      refine ru_iconst hX dX4_fits_50 (fun _ => ?_)
      refine ru_iload_n hX dX4_fits_51 rfl (fun _ => ?_)
      refine ru_imul hX dX4_fits_52 (fun _ => ?_)
      refine ru_aload_n hX dX4_fits_53 rfl (fun _ => ?_)
      refine ru_get (v := .inr (some (527, 0))) hX dX4_fits_54 rfl ⟨by decide, by decide⟩ rfl (fun _ => ?_)
      refine ru_iload hX dX4_fits_57 rfl (fun _ => ?_)
      refine ru_iaload hX dX4_fits_59 ⟨by decide, by decide⟩ rfl k3 (fun _ => ?_)
      refine ru_iadd hX dX4_fits_60 (fun _ => ?_)
      obtain ⟨k5, h⟩ := h
      refine ru_iaload hX dX4_fits_61 ⟨by decide, by decide⟩ rfl k5 (fun _ => ?_)
      refine ru_istore (ls1 := [some (.inr (some (4, 0))), o1, o2, some (.inl a3), some (.inl a4), some (.inl (σ.2 526 0 a4)), some (.inl (σ.2 512 0 ((4 * a3) + (σ.2 527 0 a4)))), o7, o8, o9]) hX dX4_fits_62 (Nat.le_of_ble_eq_true rfl) rfl (fun _ => ?_)
      refine ru_aload_n hX dX4_fits_64 rfl (fun _ => ?_)
      refine ru_get (v := .inr (some (528, 0))) hX dX4_fits_65 rfl ⟨by decide, by decide⟩ rfl (fun _ => ?_)
      refine ru_iload hX dX4_fits_68 rfl (fun _ => ?_)
      refine ru_iaload hX dX4_fits_70 ⟨by decide, by decide⟩ rfl k3 (fun _ => ?_)
      refine ru_istore (ls1 := [some (.inr (some (4, 0))), o1, o2, some (.inl a3), some (.inl a4), some (.inl (σ.2 526 0 a4)), some (.inl (σ.2 512 0 ((4 * a3) + (σ.2 527 0 a4)))), some (.inl (σ.2 528 0 a4)), o8, o9]) hX dX4_fits_71 (Nat.le_of_ble_eq_true rfl) rfl (fun _ => ?_)
      refine ru_iload hX dX4_fits_73 rfl (fun _ => ?_)
      refine ru_iconst hX dX4_fits_75 (fun _ => ?_)
      refine ru_icmp_le (tgt := 157) hX dX4_fits_76 (by decide) (hok.2 _ _ _ (by decide) (by decide) (by decide) (by decide)) (by unfold eh_r; decide) (fun q => ?_) (fun q => ?_)
      · have q6 := q
        replace h := h.1 q6
        refine ru_iload hX dX4_fits_157 rfl (fun _ => ?_)
        refine ru_iconst hX dX4_fits_159 (fun _ => ?_)
        refine ru_icmp_le (tgt := 170) hX dX4_fits_160 (by decide) (hok.2 _ _ _ (by decide) (by decide) (by decide) (by decide)) (by unfold eh_r; decide) (fun q => ?_) (fun q => ?_)
        rotate_left
        · exact absurd q6 q
        clear q
        refine ru_iload hX dX4_fits_170 rfl (fun _ => ?_)
        refine ru_istore (ls1 := [some (.inr (some (4, 0))), o1, o2, some (.inl a3), some (.inl a4), some (.inl (σ.2 526 0 a4)), some (.inl (σ.2 512 0 ((4 * a3) + (σ.2 527 0 a4)))), some (.inl (σ.2 528 0 a4)), some (.inl (σ.2 526 0 a4)), o9]) hX dX4_fits_172 (Nat.le_of_ble_eq_true rfl) rfl (fun _ => ?_)
        refine ru_iload hX dX4_fits_174 rfl (fun _ => ?_)
        refine ru_iconst hX dX4_fits_176 (fun _ => ?_)
        refine ru_icmp_ne (tgt := 195) hX dX4_fits_177 (by decide) (hok.2 _ _ _ (by decide) (by decide) (by decide) (by decide)) (by unfold eh_r; decide) (fun q => ?_) (fun q => ?_)
        · have q7 := q
          replace h := h.2 q7
          refine ru_iload hX dX4_fits_195 rfl (fun _ => ?_)
          refine ru_iconst hX dX4_fits_197 (fun _ => ?_)
          refine ru_icmp_ne (tgt := 216) hX dX4_fits_198 (by decide) (hok.2 _ _ _ (by decide) (by decide) (by decide) (by decide)) (by unfold eh_r; decide) (fun q => ?_) (fun q => ?_)
          · have q8 := q
            replace h := h.2 q8
            refine ru_iload hX dX4_fits_216 rfl (fun _ => ?_)
            refine ru_iload hX dX4_fits_218 rfl (fun _ => ?_)
            refine ru_icmp_le (tgt := 227) hX dX4_fits_220 (by decide) (hok.2 _ _ _ (by decide) (by decide) (by decide) (by decide)) (hok.2 _ _ _ (by decide) (by decide) (by decide) (by decide)) (fun q => ?_) (fun q => ?_)
            · have q9 := q
              replace h := h.1 q9
              refine ru_iconst hX dX4_fits_227 (fun _ => ?_)
              exact ru_ireturn hX dX4_fits_228 (Or.inr ⟨rfl, by decide⟩) ⟨Nat.zero_le _, Nat.zero_le _⟩ (fun _ => h)
            · have q10 := q
              replace h := h.2 q10
              refine ru_iconst hX dX4_fits_223 (fun _ => ?_)
              refine ru_goto (tgt := 228) hX dX4_fits_224 (by decide) ?_
              exact ru_ireturn hX dX4_fits_228 (Or.inr ⟨rfl, by decide⟩) ⟨Nat.zero_le _, Nat.zero_le _⟩ (fun _ => h)
          · have q11 := q
            replace h := h.1 q11
            refine ru_iload hX dX4_fits_201 rfl (fun _ => ?_)
            refine ru_iload hX dX4_fits_203 rfl (fun _ => ?_)
            refine ru_icmp_ne (tgt := 212) hX dX4_fits_205 (by decide) (hok.2 _ _ _ (by decide) (by decide) (by decide) (by decide)) (hok.2 _ _ _ (by decide) (by decide) (by decide) (by decide)) (fun q => ?_) (fun q => ?_)
            · have q12 := q
              replace h := h.2 q12
              refine ru_iconst hX dX4_fits_212 (fun _ => ?_)
              refine ru_goto (tgt := 228) hX dX4_fits_213 (by decide) ?_
              exact ru_ireturn hX dX4_fits_228 (Or.inr ⟨rfl, by decide⟩) ⟨Nat.zero_le _, Nat.zero_le _⟩ (fun _ => h)
            · have q13 := q
              replace h := h.1 q13
              refine ru_iconst hX dX4_fits_208 (fun _ => ?_)
              refine ru_goto (tgt := 228) hX dX4_fits_209 (by decide) ?_
              exact ru_ireturn hX dX4_fits_228 (Or.inr ⟨rfl, by decide⟩) ⟨Nat.zero_le _, Nat.zero_le _⟩ (fun _ => h)
        · have q14 := q
          replace h := h.1 q14
          refine ru_iload hX dX4_fits_180 rfl (fun _ => ?_)
          refine ru_iload hX dX4_fits_182 rfl (fun _ => ?_)
          refine ru_icmp_ge (tgt := 191) hX dX4_fits_184 (by decide) (hok.2 _ _ _ (by decide) (by decide) (by decide) (by decide)) (hok.2 _ _ _ (by decide) (by decide) (by decide) (by decide)) (fun q => ?_) (fun q => ?_)
          · have q15 := q
            replace h := h.1 q15
            refine ru_iconst hX dX4_fits_191 (fun _ => ?_)
            refine ru_goto (tgt := 228) hX dX4_fits_192 (by decide) ?_
            exact ru_ireturn hX dX4_fits_228 (Or.inr ⟨rfl, by decide⟩) ⟨Nat.zero_le _, Nat.zero_le _⟩ (fun _ => h)
          · have q16 := q
            replace h := h.2 q16
            refine ru_iconst hX dX4_fits_187 (fun _ => ?_)
            refine ru_goto (tgt := 228) hX dX4_fits_188 (by decide) ?_
            exact ru_ireturn hX dX4_fits_228 (Or.inr ⟨rfl, by decide⟩) ⟨Nat.zero_le _, Nat.zero_le _⟩ (fun _ => h)
      · have q17 := q
        replace h := h.2 q17
        refine ru_iconst hX dX4_fits_79 (fun _ => ?_)
        refine ru_istore (ls1 := [some (.inr (some (4, 0))), o1, o2, some (.inl a3), some (.inl a4), some (.inl (σ.2 526 0 a4)), some (.inl (σ.2 512 0 ((4 * a3) + (σ.2 527 0 a4)))), some (.inl (σ.2 528 0 a4)), some (.inl (-1)), o9]) hX dX4_fits_80 (Nat.le_of_ble_eq_true rfl) rfl (fun _ => ?_)
        refine ru_iconst hX dX4_fits_82 (fun _ => ?_)
        refine ru_istore (ls1 := [some (.inr (some (4, 0))), o1, o2, some (.inl a3), some (.inl a4), some (.inl (σ.2 526 0 a4)), some (.inl (σ.2 512 0 ((4 * a3) + (σ.2 527 0 a4)))), some (.inl (σ.2 528 0 a4)), some (.inl (-1)), some (.inl 0)]) hX dX4_fits_83 (Nat.le_of_ble_eq_true rfl) rfl (fun _ => ?_)
        exact h
    · have q18 := q
      replace h := h.1 q18
      refine ru_iconst hX dX4_fits_44 (fun _ => ?_)
      exact ru_ireturn hX dX4_fits_45 (Or.inr ⟨rfl, by decide⟩) ⟨Nat.zero_le _, Nat.zero_le _⟩ (fun _ => h)
  · have q19 := q
    replace h := h.1 q19
    refine ru_iconst hX dX4_fits_28 (fun _ => ?_)
    exact ru_ireturn hX dX4_fits_29 (Or.inr ⟨rfl, by decide⟩) ⟨Nat.zero_le _, Nat.zero_le _⟩ (fun _ => h)
theorem bX4_fits_85 {cs ss : Nat → Option (Nat × eh_T)} {lim : Nat × Nat} {Rt : Option eh_V → eh_S → Prop} {X : eh_X} (hX : eh_Ru eh_nX eh_fl4 eh_kn4 cs ss lim Rt 1 cX4_fits X)  {σ : eh_S}  {o1 : Option eh_V} {o2 : Option eh_V} {o3 : Option eh_V} {a4 : Int} {a5 : Int} {a6 : Int} {o7 : Option eh_V} {a8 : Int} {a9 : Int}  (h : eh_ok σ → (-2147483648 ≤ a9 ∧ a9 < 2147483648) ∧ ((σ.1 542 0 ≤ a9 → (-2147483648 ≤ a8 ∧ a8 < 2147483648) ∧ ((0 ≤ a8 → (0 ≤ a4 ∧ a4 < 48) ∧ (0 ≤ (4 * a8) + (σ.2 527 0 a4) ∧ (4 * a8) + (σ.2 527 0 a4) < 4000) ∧ (-2147483648 ≤ a5 ∧ a5 < 2147483648) ∧ ((a5 ≤ 3 → ((a5 = 1 → (-2147483648 ≤ a6 ∧ a6 < 2147483648) ∧ ((σ.2 512 0 ((4 * a8) + (σ.2 527 0 a4)) ≤ a6 → Rt (some (.inl 0)) σ) ∧ (¬ σ.2 512 0 ((4 * a8) + (σ.2 527 0 a4)) ≤ a6 → Rt (some (.inl 1)) σ))) ∧ (¬ a5 = 1 → ((a5 = 2 → (-2147483648 ≤ a6 ∧ a6 < 2147483648) ∧ ((a6 = σ.2 512 0 ((4 * a8) + (σ.2 527 0 a4)) → Rt (some (.inl 1)) σ) ∧ (¬ a6 = σ.2 512 0 ((4 * a8) + (σ.2 527 0 a4)) → Rt (some (.inl 0)) σ))) ∧ (¬ a5 = 2 → (-2147483648 ≤ a6 ∧ a6 < 2147483648) ∧ ((a6 ≤ σ.2 512 0 ((4 * a8) + (σ.2 527 0 a4)) → Rt (some (.inl 0)) σ) ∧ (¬ a6 ≤ σ.2 512 0 ((4 * a8) + (σ.2 527 0 a4)) → Rt (some (.inl 1)) σ))))))) ∧ (¬ a5 ≤ 3 → (-2147483648 ≤ a5 - 3 ∧ a5 - 3 < 2147483648) ∧ ((a5 - 3 = 1 → (-2147483648 ≤ a6 ∧ a6 < 2147483648) ∧ ((σ.2 512 0 ((4 * a8) + (σ.2 527 0 a4)) ≤ a6 → Rt (some (.inl 0)) σ) ∧ (¬ σ.2 512 0 ((4 * a8) + (σ.2 527 0 a4)) ≤ a6 → Rt (some (.inl 1)) σ))) ∧ (¬ a5 - 3 = 1 → ((a5 - 3 = 2 → (-2147483648 ≤ a6 ∧ a6 < 2147483648) ∧ ((a6 = σ.2 512 0 ((4 * a8) + (σ.2 527 0 a4)) → Rt (some (.inl 1)) σ) ∧ (¬ a6 = σ.2 512 0 ((4 * a8) + (σ.2 527 0 a4)) → Rt (some (.inl 0)) σ))) ∧ (¬ a5 - 3 = 2 → (-2147483648 ≤ a6 ∧ a6 < 2147483648) ∧ ((a6 ≤ σ.2 512 0 ((4 * a8) + (σ.2 527 0 a4)) → Rt (some (.inl 0)) σ) ∧ (¬ a6 ≤ σ.2 512 0 ((4 * a8) + (σ.2 527 0 a4)) → Rt (some (.inl 1)) σ))))))))) ∧ (¬ 0 ≤ a8 → Rt (some (.inl 1)) σ))) ∧ (¬ σ.1 542 0 ≤ a9 → (0 ≤ a9 ∧ a9 < 25) ∧ (0 ≤ a4 ∧ a4 < 48) ∧ ((σ.2 541 0 a9 = σ.2 528 0 a4 → X 85 [some (.inr (some (4, 0))), o1, o2, o3, some (.inl a4), some (.inl a5), some (.inl a6), o7, some (.inl (σ.2 540 0 a9)), some (.inl (a9 + 1))] [] σ (0, 0)) ∧ (¬ σ.2 541 0 a9 = σ.2 528 0 a4 → X 85 [some (.inr (some (4, 0))), o1, o2, o3, some (.inl a4), some (.inl a5), some (.inl a6), o7, some (.inl a8), some (.inl (a9 + 1))] [] σ (0, 0)))))) : X 85 [some (.inr (some (4, 0))), o1, o2, o3, some (.inl a4), some (.inl a5), some (.inl a6), o7, some (.inl a8), some (.inl a9)] [] σ (0, 0) := by
  refine ru_ok hX (fun hok => ?_)
  replace h := h hok
  refine ru_iload hX dX4_fits_85 rfl (fun _ => ?_)
  refine ru_aload_n hX dX4_fits_87 rfl (fun _ => ?_)
  refine ru_get (v := .inl (σ.1 542 0)) hX dX4_fits_88 rfl ⟨by decide, by decide⟩ rfl (fun _ => ?_)
  obtain ⟨k1, h⟩ := h
  refine ru_icmp_ge (tgt := 131) hX dX4_fits_91 (by decide) k1 (hok.1 _ _) (fun q => ?_) (fun q => ?_)
  · have q2 := q
    replace h := h.1 q2
    refine ru_iload hX dX4_fits_131 rfl (fun _ => ?_)
    obtain ⟨k3, h⟩ := h
    refine ru_if_ge (tgt := 138) hX dX4_fits_133 (by decide) k3 (fun q => ?_) (fun q => ?_)
    · have q4 := q
      replace h := h.1 q4
      refine ru_aload_n hX dX4_fits_138 rfl (fun _ => ?_)
      refine ru_get (v := .inr (some (512, 0))) hX dX4_fits_139 rfl ⟨by decide, by decide⟩ rfl (fun _ => ?_)
      refine ru_iconst hX dX4_fits_142 (fun _ => ?_)
      refine ru_iload hX dX4_fits_143 rfl (fun _ => ?_)
      refine ru_imul hX dX4_fits_145 (fun _ => ?_)
      refine ru_aload_n hX dX4_fits_146 rfl (fun _ => ?_)
      refine ru_get (v := .inr (some (527, 0))) hX dX4_fits_147 rfl ⟨by decide, by decide⟩ rfl (fun _ => ?_)
      refine ru_iload hX dX4_fits_150 rfl (fun _ => ?_)
      obtain ⟨k5, h⟩ := h
      refine ru_iaload hX dX4_fits_152 ⟨by decide, by decide⟩ rfl k5 (fun _ => ?_)
      refine ru_iadd hX dX4_fits_153 (fun _ => ?_)
      obtain ⟨k6, h⟩ := h
      refine ru_iaload hX dX4_fits_154 ⟨by decide, by decide⟩ rfl k6 (fun _ => ?_)
      refine ru_istore (ls1 := [some (.inr (some (4, 0))), o1, o2, o3, some (.inl a4), some (.inl a5), some (.inl a6), some (.inl (σ.2 512 0 ((4 * a8) + (σ.2 527 0 a4)))), some (.inl a8), some (.inl a9)]) hX dX4_fits_155 (Nat.le_of_ble_eq_true rfl) rfl (fun _ => ?_)
      refine ru_iload hX dX4_fits_157 rfl (fun _ => ?_)
      refine ru_iconst hX dX4_fits_159 (fun _ => ?_)
      obtain ⟨k7, h⟩ := h
      refine ru_icmp_le (tgt := 170) hX dX4_fits_160 (by decide) k7 (by unfold eh_r; decide) (fun q => ?_) (fun q => ?_)
      · have q8 := q
        replace h := h.1 q8
        refine ru_iload hX dX4_fits_170 rfl (fun _ => ?_)
        refine ru_istore (ls1 := [some (.inr (some (4, 0))), o1, o2, o3, some (.inl a4), some (.inl a5), some (.inl a6), some (.inl (σ.2 512 0 ((4 * a8) + (σ.2 527 0 a4)))), some (.inl a5), some (.inl a9)]) hX dX4_fits_172 (Nat.le_of_ble_eq_true rfl) rfl (fun _ => ?_)
        refine ru_iload hX dX4_fits_174 rfl (fun _ => ?_)
        refine ru_iconst hX dX4_fits_176 (fun _ => ?_)
        refine ru_icmp_ne (tgt := 195) hX dX4_fits_177 (by decide) k7 (by unfold eh_r; decide) (fun q => ?_) (fun q => ?_)
        · have q9 := q
          replace h := h.2 q9
          refine ru_iload hX dX4_fits_195 rfl (fun _ => ?_)
          refine ru_iconst hX dX4_fits_197 (fun _ => ?_)
          refine ru_icmp_ne (tgt := 216) hX dX4_fits_198 (by decide) k7 (by unfold eh_r; decide) (fun q => ?_) (fun q => ?_)
          · have q10 := q
            replace h := h.2 q10
            refine ru_iload hX dX4_fits_216 rfl (fun _ => ?_)
            refine ru_iload hX dX4_fits_218 rfl (fun _ => ?_)
            obtain ⟨k11, h⟩ := h
            refine ru_icmp_le (tgt := 227) hX dX4_fits_220 (by decide) k11 (hok.2 _ _ _ (by decide) (by decide) (by decide) (by decide)) (fun q => ?_) (fun q => ?_)
            · have q12 := q
              replace h := h.1 q12
              refine ru_iconst hX dX4_fits_227 (fun _ => ?_)
              exact ru_ireturn hX dX4_fits_228 (Or.inr ⟨rfl, by decide⟩) ⟨Nat.zero_le _, Nat.zero_le _⟩ (fun _ => h)
            · have q13 := q
              replace h := h.2 q13
              refine ru_iconst hX dX4_fits_223 (fun _ => ?_)
              refine ru_goto (tgt := 228) hX dX4_fits_224 (by decide) ?_
              exact ru_ireturn hX dX4_fits_228 (Or.inr ⟨rfl, by decide⟩) ⟨Nat.zero_le _, Nat.zero_le _⟩ (fun _ => h)
          · have q14 := q
            replace h := h.1 q14
            refine ru_iload hX dX4_fits_201 rfl (fun _ => ?_)
            refine ru_iload hX dX4_fits_203 rfl (fun _ => ?_)
            obtain ⟨k15, h⟩ := h
            refine ru_icmp_ne (tgt := 212) hX dX4_fits_205 (by decide) k15 (hok.2 _ _ _ (by decide) (by decide) (by decide) (by decide)) (fun q => ?_) (fun q => ?_)
            · have q16 := q
              replace h := h.2 q16
              refine ru_iconst hX dX4_fits_212 (fun _ => ?_)
              refine ru_goto (tgt := 228) hX dX4_fits_213 (by decide) ?_
              exact ru_ireturn hX dX4_fits_228 (Or.inr ⟨rfl, by decide⟩) ⟨Nat.zero_le _, Nat.zero_le _⟩ (fun _ => h)
            · have q17 := q
              replace h := h.1 q17
              refine ru_iconst hX dX4_fits_208 (fun _ => ?_)
              refine ru_goto (tgt := 228) hX dX4_fits_209 (by decide) ?_
              exact ru_ireturn hX dX4_fits_228 (Or.inr ⟨rfl, by decide⟩) ⟨Nat.zero_le _, Nat.zero_le _⟩ (fun _ => h)
        · have q18 := q
          replace h := h.1 q18
          refine ru_iload hX dX4_fits_180 rfl (fun _ => ?_)
          refine ru_iload hX dX4_fits_182 rfl (fun _ => ?_)
          obtain ⟨k19, h⟩ := h
          refine ru_icmp_ge (tgt := 191) hX dX4_fits_184 (by decide) k19 (hok.2 _ _ _ (by decide) (by decide) (by decide) (by decide)) (fun q => ?_) (fun q => ?_)
          · have q20 := q
            replace h := h.1 q20
            refine ru_iconst hX dX4_fits_191 (fun _ => ?_)
            refine ru_goto (tgt := 228) hX dX4_fits_192 (by decide) ?_
            exact ru_ireturn hX dX4_fits_228 (Or.inr ⟨rfl, by decide⟩) ⟨Nat.zero_le _, Nat.zero_le _⟩ (fun _ => h)
          · have q21 := q
            replace h := h.2 q21
            refine ru_iconst hX dX4_fits_187 (fun _ => ?_)
            refine ru_goto (tgt := 228) hX dX4_fits_188 (by decide) ?_
            exact ru_ireturn hX dX4_fits_228 (Or.inr ⟨rfl, by decide⟩) ⟨Nat.zero_le _, Nat.zero_le _⟩ (fun _ => h)
      · have q22 := q
        replace h := h.2 q22
        refine ru_iload hX dX4_fits_163 rfl (fun _ => ?_)
        refine ru_iconst hX dX4_fits_165 (fun _ => ?_)
        refine ru_isub hX dX4_fits_166 (fun _ => ?_)
        refine ru_goto (tgt := 172) hX dX4_fits_167 (by decide) ?_
        refine ru_istore (ls1 := [some (.inr (some (4, 0))), o1, o2, o3, some (.inl a4), some (.inl a5), some (.inl a6), some (.inl (σ.2 512 0 ((4 * a8) + (σ.2 527 0 a4)))), some (.inl (a5 - 3)), some (.inl a9)]) hX dX4_fits_172 (Nat.le_of_ble_eq_true rfl) rfl (fun _ => ?_)
        refine ru_iload hX dX4_fits_174 rfl (fun _ => ?_)
        refine ru_iconst hX dX4_fits_176 (fun _ => ?_)
        obtain ⟨k23, h⟩ := h
        refine ru_icmp_ne (tgt := 195) hX dX4_fits_177 (by decide) k23 (by unfold eh_r; decide) (fun q => ?_) (fun q => ?_)
        · have q24 := q
          replace h := h.2 q24
          refine ru_iload hX dX4_fits_195 rfl (fun _ => ?_)
          refine ru_iconst hX dX4_fits_197 (fun _ => ?_)
          refine ru_icmp_ne (tgt := 216) hX dX4_fits_198 (by decide) k23 (by unfold eh_r; decide) (fun q => ?_) (fun q => ?_)
          · have q25 := q
            replace h := h.2 q25
            refine ru_iload hX dX4_fits_216 rfl (fun _ => ?_)
            refine ru_iload hX dX4_fits_218 rfl (fun _ => ?_)
            obtain ⟨k26, h⟩ := h
            refine ru_icmp_le (tgt := 227) hX dX4_fits_220 (by decide) k26 (hok.2 _ _ _ (by decide) (by decide) (by decide) (by decide)) (fun q => ?_) (fun q => ?_)
            · have q27 := q
              replace h := h.1 q27
              refine ru_iconst hX dX4_fits_227 (fun _ => ?_)
              exact ru_ireturn hX dX4_fits_228 (Or.inr ⟨rfl, by decide⟩) ⟨Nat.zero_le _, Nat.zero_le _⟩ (fun _ => h)
            · have q28 := q
              replace h := h.2 q28
              refine ru_iconst hX dX4_fits_223 (fun _ => ?_)
              refine ru_goto (tgt := 228) hX dX4_fits_224 (by decide) ?_
              exact ru_ireturn hX dX4_fits_228 (Or.inr ⟨rfl, by decide⟩) ⟨Nat.zero_le _, Nat.zero_le _⟩ (fun _ => h)
          · have q29 := q
            replace h := h.1 q29
            refine ru_iload hX dX4_fits_201 rfl (fun _ => ?_)
            refine ru_iload hX dX4_fits_203 rfl (fun _ => ?_)
            obtain ⟨k30, h⟩ := h
            refine ru_icmp_ne (tgt := 212) hX dX4_fits_205 (by decide) k30 (hok.2 _ _ _ (by decide) (by decide) (by decide) (by decide)) (fun q => ?_) (fun q => ?_)
            · have q31 := q
              replace h := h.2 q31
              refine ru_iconst hX dX4_fits_212 (fun _ => ?_)
              refine ru_goto (tgt := 228) hX dX4_fits_213 (by decide) ?_
              exact ru_ireturn hX dX4_fits_228 (Or.inr ⟨rfl, by decide⟩) ⟨Nat.zero_le _, Nat.zero_le _⟩ (fun _ => h)
            · have q32 := q
              replace h := h.1 q32
              refine ru_iconst hX dX4_fits_208 (fun _ => ?_)
              refine ru_goto (tgt := 228) hX dX4_fits_209 (by decide) ?_
              exact ru_ireturn hX dX4_fits_228 (Or.inr ⟨rfl, by decide⟩) ⟨Nat.zero_le _, Nat.zero_le _⟩ (fun _ => h)
        · have q33 := q
          replace h := h.1 q33
          refine ru_iload hX dX4_fits_180 rfl (fun _ => ?_)
          refine ru_iload hX dX4_fits_182 rfl (fun _ => ?_)
          obtain ⟨k34, h⟩ := h
          refine ru_icmp_ge (tgt := 191) hX dX4_fits_184 (by decide) k34 (hok.2 _ _ _ (by decide) (by decide) (by decide) (by decide)) (fun q => ?_) (fun q => ?_)
          · have q35 := q
            replace h := h.1 q35
            refine ru_iconst hX dX4_fits_191 (fun _ => ?_)
            refine ru_goto (tgt := 228) hX dX4_fits_192 (by decide) ?_
            exact ru_ireturn hX dX4_fits_228 (Or.inr ⟨rfl, by decide⟩) ⟨Nat.zero_le _, Nat.zero_le _⟩ (fun _ => h)
          · have q36 := q
            replace h := h.2 q36
            refine ru_iconst hX dX4_fits_187 (fun _ => ?_)
            refine ru_goto (tgt := 228) hX dX4_fits_188 (by decide) ?_
            exact ru_ireturn hX dX4_fits_228 (Or.inr ⟨rfl, by decide⟩) ⟨Nat.zero_le _, Nat.zero_le _⟩ (fun _ => h)
    · have q37 := q
      replace h := h.2 q37
      refine ru_iconst hX dX4_fits_136 (fun _ => ?_)
      exact ru_ireturn hX dX4_fits_137 (Or.inr ⟨rfl, by decide⟩) ⟨Nat.zero_le _, Nat.zero_le _⟩ (fun _ => h)
  · have q38 := q
    replace h := h.2 q38
    refine ru_aload_n hX dX4_fits_94 rfl (fun _ => ?_)
    refine ru_get (v := .inr (some (541, 0))) hX dX4_fits_95 rfl ⟨by decide, by decide⟩ rfl (fun _ => ?_)
    refine ru_iload hX dX4_fits_98 rfl (fun _ => ?_)
    obtain ⟨k39, h⟩ := h
    refine ru_iaload hX dX4_fits_100 ⟨by decide, by decide⟩ rfl k39 (fun _ => ?_)
    refine ru_aload_n hX dX4_fits_101 rfl (fun _ => ?_)
    refine ru_get (v := .inr (some (528, 0))) hX dX4_fits_102 rfl ⟨by decide, by decide⟩ rfl (fun _ => ?_)
    refine ru_iload hX dX4_fits_105 rfl (fun _ => ?_)
    obtain ⟨k40, h⟩ := h
    refine ru_iaload hX dX4_fits_107 ⟨by decide, by decide⟩ rfl k40 (fun _ => ?_)
    refine ru_icmp_ne (tgt := 121) hX dX4_fits_108 (by decide) (hok.2 _ _ _ (by decide) (by decide) (by decide) (by decide)) (hok.2 _ _ _ (by decide) (by decide) (by decide) (by decide)) (fun q => ?_) (fun q => ?_)
    · have q41 := q
      replace h := h.2 q41
      refine ru_iload hX dX4_fits_121 rfl (fun _ => ?_)
      refine ru_istore (ls1 := [some (.inr (some (4, 0))), o1, o2, o3, some (.inl a4), some (.inl a5), some (.inl a6), o7, some (.inl a8), some (.inl a9)]) hX dX4_fits_123 (Nat.le_of_ble_eq_true rfl) rfl (fun _ => ?_)
      refine ru_iinc (ls1 := [some (.inr (some (4, 0))), o1, o2, o3, some (.inl a4), some (.inl a5), some (.inl a6), o7, some (.inl a8), some (.inl (a9 + 1))]) hX dX4_fits_125 rfl rfl (fun _ => ?_)
      refine ru_goto (tgt := 85) hX dX4_fits_128 (by decide) ?_
      exact h
    · have q42 := q
      replace h := h.1 q42
      refine ru_aload_n hX dX4_fits_111 rfl (fun _ => ?_)
      refine ru_get (v := .inr (some (540, 0))) hX dX4_fits_112 rfl ⟨by decide, by decide⟩ rfl (fun _ => ?_)
      refine ru_iload hX dX4_fits_115 rfl (fun _ => ?_)
      refine ru_iaload hX dX4_fits_117 ⟨by decide, by decide⟩ rfl k39 (fun _ => ?_)
      refine ru_goto (tgt := 123) hX dX4_fits_118 (by decide) ?_
      refine ru_istore (ls1 := [some (.inr (some (4, 0))), o1, o2, o3, some (.inl a4), some (.inl a5), some (.inl a6), o7, some (.inl (σ.2 540 0 a9)), some (.inl a9)]) hX dX4_fits_123 (Nat.le_of_ble_eq_true rfl) rfl (fun _ => ?_)
      refine ru_iinc (ls1 := [some (.inr (some (4, 0))), o1, o2, o3, some (.inl a4), some (.inl a5), some (.inl a6), o7, some (.inl (σ.2 540 0 a9)), some (.inl (a9 + 1))]) hX dX4_fits_125 rfl rfl (fun _ => ?_)
      refine ru_goto (tgt := 85) hX dX4_fits_128 (by decide) ?_
      exact h
theorem bX4_isA_0 {cs ss : Nat → Option (Nat × eh_T)} {lim : Nat × Nat} {Rt : Option eh_V → eh_S → Prop} {X : eh_X} (hX : eh_Ru eh_nX eh_fl4 eh_kn4 cs ss lim Rt 1 cX4_isA X)  {σ : eh_S}  {a1 : Int} {a2 : Int} {o3 : Option eh_V}  (h : eh_ok σ → X 2 [some (.inr (some (4, 0))), some (.inl a1), some (.inl a2), some (.inl a1)] [] σ (0, 0)) : X 0 [some (.inr (some (4, 0))), some (.inl a1), some (.inl a2), o3] [] σ (0, 0) := by
  refine ru_ok hX (fun hok => ?_)
  replace h := h hok
  refine ru_iload_n hX dX4_isA_0 rfl (fun _ => ?_)
  refine ru_istore_n (ls1 := [some (.inr (some (4, 0))), some (.inl a1), some (.inl a2), some (.inl a1)]) hX dX4_isA_1 (Nat.le_of_ble_eq_true rfl) rfl (fun _ => ?_)
  exact h
theorem bX4_isA_2 {cs ss : Nat → Option (Nat × eh_T)} {lim : Nat × Nat} {Rt : Option eh_V → eh_S → Prop} {X : eh_X} (hX : eh_Ru eh_nX eh_fl4 eh_kn4 cs ss lim Rt 1 cX4_isA X)  {σ : eh_S}  {o1 : Option eh_V} {a2 : Int} {a3 : Int}  (h : eh_ok σ → (-2147483648 ≤ a3 ∧ a3 < 2147483648) ∧ ((a3 < 0 → Rt (some (.inl 0)) σ) ∧ (¬ a3 < 0 → (-2147483648 ≤ a2 ∧ a2 < 2147483648) ∧ ((a3 = a2 → Rt (some (.inl 1)) σ) ∧ (¬ a3 = a2 → (0 ≤ a3 ∧ a3 < 16) ∧ X 2 [some (.inr (some (4, 0))), o1, some (.inl a2), some (.inl (σ.2 501 0 a3))] [] σ (0, 0)))))) : X 2 [some (.inr (some (4, 0))), o1, some (.inl a2), some (.inl a3)] [] σ (0, 0) := by
  refine ru_ok hX (fun hok => ?_)
  replace h := h hok
  refine ru_iload_n hX dX4_isA_2 rfl (fun _ => ?_)
  obtain ⟨k1, h⟩ := h
  refine ru_if_lt (tgt := 21) hX dX4_isA_3 (by decide) k1 (fun q => ?_) (fun q => ?_)
  · have q2 := q
    replace h := h.1 q2
    refine ru_iload_n hX dX4_isA_21 rfl (fun _ => ?_)
    refine ru_if_lt (tgt := 29) hX dX4_isA_22 (by decide) k1 (fun q => ?_) (fun q => ?_)
    rotate_left
    · exact absurd q2 q
    clear q
    refine ru_iconst hX dX4_isA_29 (fun _ => ?_)
    exact ru_ireturn hX dX4_isA_30 (Or.inr ⟨rfl, by decide⟩) ⟨Nat.zero_le _, Nat.zero_le _⟩ (fun _ => h)
  · have q3 := q
    replace h := h.2 q3
    refine ru_iload_n hX dX4_isA_6 rfl (fun _ => ?_)
    refine ru_iload_n hX dX4_isA_7 rfl (fun _ => ?_)
    obtain ⟨k4, h⟩ := h
    refine ru_icmp_eq (tgt := 21) hX dX4_isA_8 (by decide) k1 k4 (fun q => ?_) (fun q => ?_)
    · have q5 := q
      replace h := h.1 q5
      refine ru_iload_n hX dX4_isA_21 rfl (fun _ => ?_)
      refine ru_if_lt (tgt := 29) hX dX4_isA_22 (by decide) k1 (fun q => ?_) (fun q => ?_)
      · exact absurd q q3
      clear q
      refine ru_iconst hX dX4_isA_25 (fun _ => ?_)
      refine ru_goto (tgt := 30) hX dX4_isA_26 (by decide) ?_
      exact ru_ireturn hX dX4_isA_30 (Or.inr ⟨rfl, by decide⟩) ⟨Nat.zero_le _, Nat.zero_le _⟩ (fun _ => h)
    · have q6 := q
      replace h := h.2 q6
      refine ru_aload_n hX dX4_isA_11 rfl (fun _ => ?_)
      refine ru_get (v := .inr (some (501, 0))) hX dX4_isA_12 rfl ⟨by decide, by decide⟩ rfl (fun _ => ?_)
      refine ru_iload_n hX dX4_isA_15 rfl (fun _ => ?_)
      obtain ⟨k7, h⟩ := h
      refine ru_iaload hX dX4_isA_16 ⟨by decide, by decide⟩ rfl k7 (fun _ => ?_)
      refine ru_istore_n (ls1 := [some (.inr (some (4, 0))), o1, some (.inl a2), some (.inl (σ.2 501 0 a3))]) hX dX4_isA_17 (Nat.le_of_ble_eq_true rfl) rfl (fun _ => ?_)
      refine ru_goto (tgt := 2) hX dX4_isA_18 (by decide) ?_
      exact h
theorem bX4_add_0 {cs ss : Nat → Option (Nat × eh_T)} {lim : Nat × Nat} {Rt : Option eh_V → eh_S → Prop} {X : eh_X} (hX : eh_Ru eh_nX eh_fl4 eh_kn4 cs ss lim Rt 2 cX4_add X)  {σ : eh_S}  {a1 : Int} {a2 : Int}  (h : eh_ok σ → (0 ≤ σ.1 542 0 ∧ σ.1 542 0 < 25) ∧ (-2147483648 ≤ a1 ∧ a1 < 2147483648) ∧ (-2147483648 ≤ a2 ∧ a2 < 2147483648) ∧ (-2147483648 ≤ (σ.1 542 0) + 1 ∧ (σ.1 542 0) + 1 < 2147483648) ∧ Rt none (eh_sV (eh_sA (eh_sA σ 540 0 (σ.1 542 0) a1) 541 0 (σ.1 542 0) a2) 542 0 ((σ.1 542 0) + 1))) : X 0 [some (.inr (some (4, 0))), some (.inl a1), some (.inl a2)] [] σ (0, 0) := by
  refine ru_ok hX (fun hok => ?_)
  replace h := h hok
  refine ru_aload_n hX dX4_add_0 rfl (fun _ => ?_)
  refine ru_get (v := .inr (some (540, 0))) hX dX4_add_1 rfl ⟨by decide, by decide⟩ rfl (fun _ => ?_)
  refine ru_aload_n hX dX4_add_4 rfl (fun _ => ?_)
  refine ru_get (v := .inl (σ.1 542 0)) hX dX4_add_5 rfl ⟨by decide, by decide⟩ rfl (fun _ => ?_)
  refine ru_iload_n hX dX4_add_8 rfl (fun _ => ?_)
  obtain ⟨k1, h⟩ := h
  obtain ⟨k2, h⟩ := h
  refine ru_iastore hX dX4_add_9 ⟨by decide, by decide⟩ rfl k1 k2 (fun _ => ?_)
  refine ru_aload_n hX dX4_add_10 rfl (fun hok3 => ?_)
  refine ru_get (v := .inr (some (541, 0))) hX dX4_add_11 rfl ⟨by decide, by decide⟩ rfl (fun _ => ?_)
  refine ru_aload_n hX dX4_add_14 rfl (fun _ => ?_)
  refine ru_get (v := .inl (σ.1 542 0)) hX dX4_add_15 rfl ⟨by decide, by decide⟩ rfl (fun _ => ?_)
  refine ru_iload_n hX dX4_add_18 rfl (fun _ => ?_)
  obtain ⟨k4, h⟩ := h
  refine ru_iastore hX dX4_add_19 ⟨by decide, by decide⟩ rfl k1 k4 (fun _ => ?_)
  refine ru_aload_n hX dX4_add_20 rfl (fun hok5 => ?_)
  refine ru_dup hX dX4_add_21 (fun _ => ?_)
  refine ru_get (v := .inl (σ.1 542 0)) hX dX4_add_22 rfl ⟨by decide, by decide⟩ rfl (fun _ => ?_)
  refine ru_iconst hX dX4_add_25 (fun _ => ?_)
  refine ru_iadd hX dX4_add_26 (fun _ => ?_)
  obtain ⟨k6, h⟩ := h
  refine ru_putI (id := 542) hX dX4_add_27 rfl ⟨by decide, by decide⟩ rfl k6 rfl (fun _ => ?_)
  exact ru_return hX dX4_add_30 rfl ⟨Nat.zero_le _, Nat.zero_le _⟩ (fun _ => h)
theorem bX4_isWhole_0 {cs ss : Nat → Option (Nat × eh_T)} {lim : Nat × Nat} {Rt : Option eh_V → eh_S → Prop} {X : eh_X} (hX : eh_Ru eh_nX eh_fl4 eh_kn4 cs ss lim Rt 1 cX4_isWhole X)  {σ : eh_S}  {a1 : Int} {o2 : Option eh_V}  (h : eh_ok σ → (0 ≤ (σ.1 542 0) - 1 ∧ (σ.1 542 0) - 1 < 25) ∧ X 14 [some (.inr (some (4, 0))), some (.inl a1), some (.inl ((σ.2 541 0 ((σ.1 542 0) - 1)) + 1))] [] σ (0, 0)) : X 0 [some (.inr (some (4, 0))), some (.inl a1), o2] [] σ (0, 0) := by
  refine ru_ok hX (fun hok => ?_)
  replace h := h hok
  refine ru_aload_n hX dX4_isWhole_0 rfl (fun _ => ?_)
  refine ru_get (v := .inr (some (541, 0))) hX dX4_isWhole_1 rfl ⟨by decide, by decide⟩ rfl (fun _ => ?_)
  refine ru_aload_n hX dX4_isWhole_4 rfl (fun _ => ?_)
  refine ru_get (v := .inl (σ.1 542 0)) hX dX4_isWhole_5 rfl ⟨by decide, by decide⟩ rfl (fun _ => ?_)
  refine ru_iconst hX dX4_isWhole_8 (fun _ => ?_)
  refine ru_isub hX dX4_isWhole_9 (fun _ => ?_)
  obtain ⟨k1, h⟩ := h
  refine ru_iaload hX dX4_isWhole_10 ⟨by decide, by decide⟩ rfl k1 (fun _ => ?_)
  refine ru_iconst hX dX4_isWhole_11 (fun _ => ?_)
  refine ru_iadd hX dX4_isWhole_12 (fun _ => ?_)
  refine ru_istore_n (ls1 := [some (.inr (some (4, 0))), some (.inl a1), some (.inl ((σ.2 541 0 ((σ.1 542 0) - 1)) + 1))]) hX dX4_isWhole_13 (Nat.le_of_ble_eq_true rfl) rfl (fun _ => ?_)
  exact h
theorem bX4_isWhole_14 {cs ss : Nat → Option (Nat × eh_T)} {lim : Nat × Nat} {Rt : Option eh_V → eh_S → Prop} {X : eh_X} (hX : eh_Ru eh_nX eh_fl4 eh_kn4 cs ss lim Rt 1 cX4_isWhole X) {T163 : eh_T} (hc163 : cs 163 = some (2, T163)) {σ : eh_S}  {a1 : Int} {a2 : Int}  (h : eh_ok σ → T163 [.inr (some (4, 0)), .inl a1] σ (0, 0) (fun r σ1 => X 20 [some (.inr (some (4, 0))), some (.inl a1), some (.inl a2)] (r.toList ++ [.inl a2]) σ1 (0, 0))) : X 14 [some (.inr (some (4, 0))), some (.inl a1), some (.inl a2)] [] σ (0, 0) := by
  refine ru_ok hX (fun hok => ?_)
  replace h := h hok
  refine ru_iload_n hX dX4_isWhole_14 rfl (fun _ => ?_)
  refine ru_aload_n hX dX4_isWhole_15 rfl (fun _ => ?_)
  refine ru_iload_n hX dX4_isWhole_16 rfl (fun _ => ?_)
  exact ru_callV (as := [.inr (some (4, 0)), .inl a1]) (rest := [.inl a2]) hX dX4_isWhole_17 hc163 rfl (Nat.le_of_ble_eq_true rfl) (0, 0) ⟨Nat.zero_le _, Nat.zero_le _⟩ h
theorem bX4_isWhole_20 {cs ss : Nat → Option (Nat × eh_T)} {lim : Nat × Nat} {Rt : Option eh_V → eh_S → Prop} {X : eh_X} (hX : eh_Ru eh_nX eh_fl4 eh_kn4 cs ss lim Rt 1 cX4_isWhole X)  {σ : eh_S}  {a1 : Int} {a2 : Int} {s0 : Int} {s1 : Int}  (h : eh_ok σ → (-2147483648 ≤ s1 ∧ s1 < 2147483648) ∧ (-2147483648 ≤ s0 ∧ s0 < 2147483648) ∧ ((s0 ≤ s1 → Rt (some (.inl 1)) σ) ∧ (¬ s0 ≤ s1 → (0 ≤ (6 * a1) + a2 ∧ (6 * a1) + a2 < 48) ∧ ((σ.2 524 0 ((6 * a1) + a2) = 2 → X 14 [some (.inr (some (4, 0))), some (.inl a1), some (.inl (a2 + 1))] [] σ (0, 0)) ∧ (¬ σ.2 524 0 ((6 * a1) + a2) = 2 → Rt (some (.inl 0)) σ))))) : X 20 [some (.inr (some (4, 0))), some (.inl a1), some (.inl a2)] [.inl s0, .inl s1] σ (0, 0) := by
  refine ru_ok hX (fun hok => ?_)
  replace h := h hok
  obtain ⟨k1, h⟩ := h
  obtain ⟨k2, h⟩ := h
  refine ru_icmp_ge (tgt := 46) hX dX4_isWhole_20 (by decide) k1 k2 (fun q => ?_) (fun q => ?_)
  · have q3 := q
    replace h := h.1 q3
    refine ru_iconst hX dX4_isWhole_46 (fun _ => ?_)
    exact ru_ireturn hX dX4_isWhole_47 (Or.inr ⟨rfl, by decide⟩) ⟨Nat.zero_le _, Nat.zero_le _⟩ (fun _ => h)
  · have q4 := q
    replace h := h.2 q4
    refine ru_aload_n hX dX4_isWhole_23 rfl (fun _ => ?_)
    refine ru_get (v := .inr (some (524, 0))) hX dX4_isWhole_24 rfl ⟨by decide, by decide⟩ rfl (fun _ => ?_)
    refine ru_bipush hX dX4_isWhole_27 (by decide) (fun _ => ?_)
    refine ru_iload_n hX dX4_isWhole_29 rfl (fun _ => ?_)
    refine ru_imul hX dX4_isWhole_30 (fun _ => ?_)
    refine ru_iload_n hX dX4_isWhole_31 rfl (fun _ => ?_)
    refine ru_iadd hX dX4_isWhole_32 (fun _ => ?_)
    obtain ⟨k5, h⟩ := h
    refine ru_iaload hX dX4_isWhole_33 ⟨by decide, by decide⟩ rfl k5 (fun _ => ?_)
    refine ru_iconst hX dX4_isWhole_34 (fun _ => ?_)
    refine ru_icmp_eq (tgt := 40) hX dX4_isWhole_35 (by decide) (hok.2 _ _ _ (by decide) (by decide) (by decide) (by decide)) (by unfold eh_r; decide) (fun q => ?_) (fun q => ?_)
    · have q6 := q
      replace h := h.1 q6
      refine ru_iinc (ls1 := [some (.inr (some (4, 0))), some (.inl a1), some (.inl (a2 + 1))]) hX dX4_isWhole_40 rfl rfl (fun _ => ?_)
      refine ru_goto (tgt := 14) hX dX4_isWhole_43 (by decide) ?_
      exact h
    · have q7 := q
      replace h := h.2 q7
      refine ru_iconst hX dX4_isWhole_38 (fun _ => ?_)
      exact ru_ireturn hX dX4_isWhole_39 (Or.inr ⟨rfl, by decide⟩) ⟨Nat.zero_le _, Nat.zero_le _⟩ (fun _ => h)
theorem bX4_tell_0 {cs ss : Nat → Option (Nat × eh_T)} {lim : Nat × Nat} {Rt : Option eh_V → eh_S → Prop} {X : eh_X} (hX : eh_Ru eh_nX eh_fl4 eh_kn4 cs ss lim Rt 2 cX4_tell X)  {σ : eh_S}  {a1 : Int} {o2 : Option eh_V}  (h : eh_ok σ → ((1000 ≤ σ.1 535 0 → (-2147483648 ≤ (σ.1 535 0) + 1 ∧ (σ.1 535 0) + 1 < 2147483648) ∧ (0 ≤ a1 ∧ a1 < 8) ∧ (-2147483648 ≤ (σ.2 523 0 a1) + 1 ∧ (σ.2 523 0 a1) + 1 < 2147483648) ∧ Rt none (eh_sA (eh_sV σ 535 0 ((σ.1 535 0) + 1)) 523 0 a1 ((σ.2 523 0 a1) + 1))) ∧ (¬ 1000 ≤ σ.1 535 0 → (0 ≤ σ.1 535 0 ∧ σ.1 535 0 < 1000) ∧ (-2147483648 ≤ a1 ∧ a1 < 2147483648) ∧ X 35 [some (.inr (some (4, 0))), some (.inl a1), some (.inl 0)] [] (eh_sA (eh_sA σ 536 0 (σ.1 535 0) a1) 537 0 (σ.1 535 0) (σ.1 542 0)) (0, 0)))) : X 0 [some (.inr (some (4, 0))), some (.inl a1), o2] [] σ (0, 0) := by
  refine ru_ok hX (fun hok => ?_)
  replace h := h hok
  refine ru_aload_n hX dX4_tell_0 rfl (fun _ => ?_)
  refine ru_get (v := .inl (σ.1 535 0)) hX dX4_tell_1 rfl ⟨by decide, by decide⟩ rfl (fun _ => ?_)
  refine ru_sipush hX dX4_tell_4 (by decide) (fun _ => ?_)
  refine ru_icmp_ge (tgt := 89) hX dX4_tell_7 (by decide) (hok.1 _ _) (by unfold eh_r; decide) (fun q => ?_) (fun q => ?_)
  · have q1 := q
    replace h := h.1 q1
    refine ru_aload_n hX dX4_tell_89 rfl (fun _ => ?_)
    refine ru_dup hX dX4_tell_90 (fun _ => ?_)
    refine ru_get (v := .inl (σ.1 535 0)) hX dX4_tell_91 rfl ⟨by decide, by decide⟩ rfl (fun _ => ?_)
    refine ru_iconst hX dX4_tell_94 (fun _ => ?_)
    refine ru_iadd hX dX4_tell_95 (fun _ => ?_)
    obtain ⟨k2, h⟩ := h
    refine ru_putI (id := 535) hX dX4_tell_96 rfl ⟨by decide, by decide⟩ rfl k2 rfl (fun _ => ?_)
    refine ru_aload_n hX dX4_tell_99 rfl (fun hok3 => ?_)
    refine ru_get (v := .inr (some (523, 0))) hX dX4_tell_100 rfl ⟨by decide, by decide⟩ rfl (fun _ => ?_)
    refine ru_iload_n hX dX4_tell_103 rfl (fun _ => ?_)
    refine ru_dup2 hX dX4_tell_104 (fun _ => ?_)
    obtain ⟨k4, h⟩ := h
    refine ru_iaload hX dX4_tell_105 ⟨by decide, by decide⟩ rfl k4 (fun _ => ?_)
    refine ru_iconst hX dX4_tell_106 (fun _ => ?_)
    refine ru_iadd hX dX4_tell_107 (fun _ => ?_)
    obtain ⟨k5, h⟩ := h
    refine ru_iastore hX dX4_tell_108 ⟨by decide, by decide⟩ rfl k4 k5 (fun _ => ?_)
    exact ru_return hX dX4_tell_109 rfl ⟨Nat.zero_le _, Nat.zero_le _⟩ (fun _ => h)
  · have q6 := q
    replace h := h.2 q6
    refine ru_aload_n hX dX4_tell_10 rfl (fun _ => ?_)
    refine ru_get (v := .inr (some (536, 0))) hX dX4_tell_11 rfl ⟨by decide, by decide⟩ rfl (fun _ => ?_)
    refine ru_aload_n hX dX4_tell_14 rfl (fun _ => ?_)
    refine ru_get (v := .inl (σ.1 535 0)) hX dX4_tell_15 rfl ⟨by decide, by decide⟩ rfl (fun _ => ?_)
    refine ru_iload_n hX dX4_tell_18 rfl (fun _ => ?_)
    obtain ⟨k7, h⟩ := h
    obtain ⟨k8, h⟩ := h
    refine ru_iastore hX dX4_tell_19 ⟨by decide, by decide⟩ rfl k7 k8 (fun _ => ?_)
    refine ru_aload_n hX dX4_tell_20 rfl (fun hok9 => ?_)
    refine ru_get (v := .inr (some (537, 0))) hX dX4_tell_21 rfl ⟨by decide, by decide⟩ rfl (fun _ => ?_)
    refine ru_aload_n hX dX4_tell_24 rfl (fun _ => ?_)
    refine ru_get (v := .inl (σ.1 535 0)) hX dX4_tell_25 rfl ⟨by decide, by decide⟩ rfl (fun _ => ?_)
    refine ru_aload_n hX dX4_tell_28 rfl (fun _ => ?_)
    refine ru_get (v := .inl (σ.1 542 0)) hX dX4_tell_29 rfl ⟨by decide, by decide⟩ rfl (fun _ => ?_)
    refine ru_iastore hX dX4_tell_32 ⟨by decide, by decide⟩ rfl k7 (hok.1 _ _) (fun _ => ?_)
    refine ru_iconst hX dX4_tell_33 (fun hok10 => ?_)
    refine ru_istore_n (ls1 := [some (.inr (some (4, 0))), some (.inl a1), some (.inl 0)]) hX dX4_tell_34 (Nat.le_of_ble_eq_true rfl) rfl (fun _ => ?_)
    exact h
theorem bX4_tell_35 {cs ss : Nat → Option (Nat × eh_T)} {lim : Nat × Nat} {Rt : Option eh_V → eh_S → Prop} {X : eh_X} (hX : eh_Ru eh_nX eh_fl4 eh_kn4 cs ss lim Rt 2 cX4_tell X)  {σ : eh_S}  {a1 : Int} {a2 : Int}  (h : eh_ok σ → (-2147483648 ≤ a2 ∧ a2 < 2147483648) ∧ ((σ.1 542 0 ≤ a2 → (-2147483648 ≤ (σ.1 535 0) + 1 ∧ (σ.1 535 0) + 1 < 2147483648) ∧ (0 ≤ a1 ∧ a1 < 8) ∧ (-2147483648 ≤ (σ.2 523 0 a1) + 1 ∧ (σ.2 523 0 a1) + 1 < 2147483648) ∧ Rt none (eh_sA (eh_sV σ 535 0 ((σ.1 535 0) + 1)) 523 0 a1 ((σ.2 523 0 a1) + 1))) ∧ (¬ σ.1 542 0 ≤ a2 → (0 ≤ a2 ∧ a2 < 25) ∧ (0 ≤ (24 * (σ.1 535 0)) + a2 ∧ (24 * (σ.1 535 0)) + a2 < 24000) ∧ X 35 [some (.inr (some (4, 0))), some (.inl a1), some (.inl (a2 + 1))] [] (eh_sA (eh_sA σ 538 0 ((24 * (σ.1 535 0)) + a2) (σ.2 540 0 a2)) 539 0 ((24 * (σ.1 535 0)) + a2) (σ.2 541 0 a2)) (0, 0)))) : X 35 [some (.inr (some (4, 0))), some (.inl a1), some (.inl a2)] [] σ (0, 0) := by
  refine ru_ok hX (fun hok => ?_)
  replace h := h hok
  refine ru_iload_n hX dX4_tell_35 rfl (fun _ => ?_)
  refine ru_aload_n hX dX4_tell_36 rfl (fun _ => ?_)
  refine ru_get (v := .inl (σ.1 542 0)) hX dX4_tell_37 rfl ⟨by decide, by decide⟩ rfl (fun _ => ?_)
  obtain ⟨k1, h⟩ := h
  refine ru_icmp_ge (tgt := 89) hX dX4_tell_40 (by decide) k1 (hok.1 _ _) (fun q => ?_) (fun q => ?_)
  · have q2 := q
    replace h := h.1 q2
    refine ru_aload_n hX dX4_tell_89 rfl (fun _ => ?_)
    refine ru_dup hX dX4_tell_90 (fun _ => ?_)
    refine ru_get (v := .inl (σ.1 535 0)) hX dX4_tell_91 rfl ⟨by decide, by decide⟩ rfl (fun _ => ?_)
    refine ru_iconst hX dX4_tell_94 (fun _ => ?_)
    refine ru_iadd hX dX4_tell_95 (fun _ => ?_)
    obtain ⟨k3, h⟩ := h
    refine ru_putI (id := 535) hX dX4_tell_96 rfl ⟨by decide, by decide⟩ rfl k3 rfl (fun _ => ?_)
    refine ru_aload_n hX dX4_tell_99 rfl (fun hok4 => ?_)
    refine ru_get (v := .inr (some (523, 0))) hX dX4_tell_100 rfl ⟨by decide, by decide⟩ rfl (fun _ => ?_)
    refine ru_iload_n hX dX4_tell_103 rfl (fun _ => ?_)
    refine ru_dup2 hX dX4_tell_104 (fun _ => ?_)
    obtain ⟨k5, h⟩ := h
    refine ru_iaload hX dX4_tell_105 ⟨by decide, by decide⟩ rfl k5 (fun _ => ?_)
    refine ru_iconst hX dX4_tell_106 (fun _ => ?_)
    refine ru_iadd hX dX4_tell_107 (fun _ => ?_)
    obtain ⟨k6, h⟩ := h
    refine ru_iastore hX dX4_tell_108 ⟨by decide, by decide⟩ rfl k5 k6 (fun _ => ?_)
    exact ru_return hX dX4_tell_109 rfl ⟨Nat.zero_le _, Nat.zero_le _⟩ (fun _ => h)
  · have q7 := q
    replace h := h.2 q7
    refine ru_aload_n hX dX4_tell_43 rfl (fun _ => ?_)
    refine ru_get (v := .inr (some (538, 0))) hX dX4_tell_44 rfl ⟨by decide, by decide⟩ rfl (fun _ => ?_)
    refine ru_bipush hX dX4_tell_47 (by decide) (fun _ => ?_)
    refine ru_aload_n hX dX4_tell_49 rfl (fun _ => ?_)
    refine ru_get (v := .inl (σ.1 535 0)) hX dX4_tell_50 rfl ⟨by decide, by decide⟩ rfl (fun _ => ?_)
    refine ru_imul hX dX4_tell_53 (fun _ => ?_)
    refine ru_iload_n hX dX4_tell_54 rfl (fun _ => ?_)
    refine ru_iadd hX dX4_tell_55 (fun _ => ?_)
    refine ru_aload_n hX dX4_tell_56 rfl (fun _ => ?_)
    refine ru_get (v := .inr (some (540, 0))) hX dX4_tell_57 rfl ⟨by decide, by decide⟩ rfl (fun _ => ?_)
    refine ru_iload_n hX dX4_tell_60 rfl (fun _ => ?_)
    obtain ⟨k8, h⟩ := h
    refine ru_iaload hX dX4_tell_61 ⟨by decide, by decide⟩ rfl k8 (fun _ => ?_)
    obtain ⟨k9, h⟩ := h
    refine ru_iastore hX dX4_tell_62 ⟨by decide, by decide⟩ rfl k9 (hok.2 _ _ _ (by decide) (by decide) (by decide) (by decide)) (fun _ => ?_)
    refine ru_aload_n hX dX4_tell_63 rfl (fun hok10 => ?_)
    refine ru_get (v := .inr (some (539, 0))) hX dX4_tell_64 rfl ⟨by decide, by decide⟩ rfl (fun _ => ?_)
    refine ru_bipush hX dX4_tell_67 (by decide) (fun _ => ?_)
    refine ru_aload_n hX dX4_tell_69 rfl (fun _ => ?_)
    refine ru_get (v := .inl (σ.1 535 0)) hX dX4_tell_70 rfl ⟨by decide, by decide⟩ rfl (fun _ => ?_)
    refine ru_imul hX dX4_tell_73 (fun _ => ?_)
    refine ru_iload_n hX dX4_tell_74 rfl (fun _ => ?_)
    refine ru_iadd hX dX4_tell_75 (fun _ => ?_)
    refine ru_aload_n hX dX4_tell_76 rfl (fun _ => ?_)
    refine ru_get (v := .inr (some (541, 0))) hX dX4_tell_77 rfl ⟨by decide, by decide⟩ rfl (fun _ => ?_)
    refine ru_iload_n hX dX4_tell_80 rfl (fun _ => ?_)
    refine ru_iaload hX dX4_tell_81 ⟨by decide, by decide⟩ rfl k8 (fun _ => ?_)
    refine ru_iastore hX dX4_tell_82 ⟨by decide, by decide⟩ rfl k9 (hok.2 _ _ _ (by decide) (by decide) (by decide) (by decide)) (fun _ => ?_)
    refine ru_iinc (ls1 := [some (.inr (some (4, 0))), some (.inl a1), some (.inl (a2 + 1))]) hX dX4_tell_83 rfl rfl (fun hok11 => ?_)
    refine ru_goto (tgt := 35) hX dX4_tell_86 (by decide) ?_
    exact h
theorem bX4_make_0 {cs ss : Nat → Option (Nat × eh_T)} {lim : Nat × Nat} {Rt : Option eh_V → eh_S → Prop} {X : eh_X} (hX : eh_Ru eh_nX eh_fl4 eh_kn4 cs ss lim Rt 1 cX4_make X) {T177 : eh_T} (hc177 : cs 177 = some (4, T177)) {σ : eh_S}  {a1 : Int}  (h : eh_ok σ → (0 ≤ a1 ∧ a1 < 8) ∧ ((σ.2 529 0 a1 = 200 → Rt (some (.inl 0)) (eh_sA (eh_sA σ 522 0 a1 1) 529 0 a1 0)) ∧ (¬ σ.2 529 0 a1 = 200 → T177 [.inr (some (4, 0)), .inl a1, .inl (σ.2 529 0 a1), .inl 0] σ (0, 0) (fun r σ1 => X 40 [some (.inr (some (4, 0))), some (.inl a1)] (r.toList ++ []) σ1 (0, 0))))) : X 0 [some (.inr (some (4, 0))), some (.inl a1)] [] σ (0, 0) := by
  refine ru_ok hX (fun hok => ?_)
  replace h := h hok
  refine ru_aload_n hX dX4_make_0 rfl (fun _ => ?_)
  refine ru_get (v := .inr (some (529, 0))) hX dX4_make_1 rfl ⟨by decide, by decide⟩ rfl (fun _ => ?_)
  refine ru_iload_n hX dX4_make_4 rfl (fun _ => ?_)
  obtain ⟨k1, h⟩ := h
  refine ru_iaload hX dX4_make_5 ⟨by decide, by decide⟩ rfl k1 (fun _ => ?_)
  refine ru_sipush hX dX4_make_6 (by decide) (fun _ => ?_)
  refine ru_icmp_ne (tgt := 28) hX dX4_make_9 (by decide) (hok.2 _ _ _ (by decide) (by decide) (by decide) (by decide)) (by unfold eh_r; decide) (fun q => ?_) (fun q => ?_)
  · have q2 := q
    replace h := h.2 q2
    refine ru_aload_n hX dX4_make_28 rfl (fun _ => ?_)
    refine ru_iload_n hX dX4_make_29 rfl (fun _ => ?_)
    refine ru_aload_n hX dX4_make_30 rfl (fun _ => ?_)
    refine ru_get (v := .inr (some (529, 0))) hX dX4_make_31 rfl ⟨by decide, by decide⟩ rfl (fun _ => ?_)
    refine ru_iload_n hX dX4_make_34 rfl (fun _ => ?_)
    refine ru_iaload hX dX4_make_35 ⟨by decide, by decide⟩ rfl k1 (fun _ => ?_)
    refine ru_iconst hX dX4_make_36 (fun _ => ?_)
    exact ru_callV (as := [.inr (some (4, 0)), .inl a1, .inl (σ.2 529 0 a1), .inl 0]) (rest := []) hX dX4_make_37 hc177 rfl (Nat.le_of_ble_eq_true rfl) (0, 0) ⟨Nat.zero_le _, Nat.zero_le _⟩ h
  · have q3 := q
    replace h := h.1 q3
    refine ru_aload_n hX dX4_make_12 rfl (fun _ => ?_)
    refine ru_get (v := .inr (some (522, 0))) hX dX4_make_13 rfl ⟨by decide, by decide⟩ rfl (fun _ => ?_)
    refine ru_iload_n hX dX4_make_16 rfl (fun _ => ?_)
    refine ru_iconst hX dX4_make_17 (fun _ => ?_)
    refine ru_zastore hX dX4_make_18 (by decide) ⟨by decide, by decide⟩ rfl k1 (by decide) (fun _ => ?_)
    refine ru_aload_n hX dX4_make_19 rfl (fun hok4 => ?_)
    refine ru_get (v := .inr (some (529, 0))) hX dX4_make_20 rfl ⟨by decide, by decide⟩ rfl (fun _ => ?_)
    refine ru_iload_n hX dX4_make_23 rfl (fun _ => ?_)
    refine ru_iconst hX dX4_make_24 (fun _ => ?_)
    refine ru_iastore hX dX4_make_25 ⟨by decide, by decide⟩ rfl k1 (by unfold eh_r; decide) (fun _ => ?_)
    refine ru_iconst hX dX4_make_26 (fun hok5 => ?_)
    exact ru_ireturn hX dX4_make_27 (Or.inr ⟨rfl, by decide⟩) ⟨Nat.zero_le _, Nat.zero_le _⟩ (fun _ => h)
theorem bX4_make_40 {cs ss : Nat → Option (Nat × eh_T)} {lim : Nat × Nat} {Rt : Option eh_V → eh_S → Prop} {X : eh_X} (hX : eh_Ru eh_nX eh_fl4 eh_kn4 cs ss lim Rt 1 cX4_make X)  {σ : eh_S}  {a1 : Int}  (h : eh_ok σ → (0 ≤ a1 ∧ a1 < 8) ∧ (0 ≤ σ.2 529 0 a1 ∧ σ.2 529 0 a1 < 201) ∧ (-2147483648 ≤ (σ.2 529 0 a1) + 1 ∧ (σ.2 529 0 a1) + 1 < 2147483648) ∧ Rt (some (.inl 1)) (eh_sA (eh_sA σ 534 0 (σ.2 529 0 a1) 0) 529 0 a1 ((σ.2 529 0 a1) + 1))) : X 40 [some (.inr (some (4, 0))), some (.inl a1)] [] σ (0, 0) := by
  refine ru_ok hX (fun hok => ?_)
  replace h := h hok
  refine ru_aload_n hX dX4_make_40 rfl (fun _ => ?_)
  refine ru_get (v := .inr (some (534, 0))) hX dX4_make_41 rfl ⟨by decide, by decide⟩ rfl (fun _ => ?_)
  refine ru_aload_n hX dX4_make_44 rfl (fun _ => ?_)
  refine ru_get (v := .inr (some (529, 0))) hX dX4_make_45 rfl ⟨by decide, by decide⟩ rfl (fun _ => ?_)
  refine ru_iload_n hX dX4_make_48 rfl (fun _ => ?_)
  obtain ⟨k1, h⟩ := h
  refine ru_iaload hX dX4_make_49 ⟨by decide, by decide⟩ rfl k1 (fun _ => ?_)
  refine ru_iconst hX dX4_make_50 (fun _ => ?_)
  obtain ⟨k2, h⟩ := h
  refine ru_zastore hX dX4_make_51 (by decide) ⟨by decide, by decide⟩ rfl k2 (by decide) (fun _ => ?_)
  refine ru_aload_n hX dX4_make_52 rfl (fun hok3 => ?_)
  refine ru_get (v := .inr (some (529, 0))) hX dX4_make_53 rfl ⟨by decide, by decide⟩ rfl (fun _ => ?_)
  refine ru_iload_n hX dX4_make_56 rfl (fun _ => ?_)
  refine ru_dup2 hX dX4_make_57 (fun _ => ?_)
  refine ru_iaload hX dX4_make_58 ⟨by decide, by decide⟩ rfl k1 (fun _ => ?_)
  refine ru_iconst hX dX4_make_59 (fun _ => ?_)
  refine ru_iadd hX dX4_make_60 (fun _ => ?_)
  obtain ⟨k4, h⟩ := h
  refine ru_iastore hX dX4_make_61 ⟨by decide, by decide⟩ rfl k1 k4 (fun _ => ?_)
  refine ru_iconst hX dX4_make_62 (fun hok5 => ?_)
  exact ru_ireturn hX dX4_make_63 (Or.inr ⟨rfl, by decide⟩) ⟨Nat.zero_le _, Nat.zero_le _⟩ (fun _ => h)
theorem bX4_matches_0 {cs ss : Nat → Option (Nat × eh_T)} {lim : Nat × Nat} {Rt : Option eh_V → eh_S → Prop} {X : eh_X} (hX : eh_Ru eh_nX eh_fl4 eh_kn4 cs ss lim Rt 0 cX4_matches X) {T143 : eh_T} (hc143 : cs 143 = some (2, T143)) {σ : eh_S}  {a1 : Int}  (h : eh_ok σ → (-2147483648 ≤ a1 ∧ a1 < 2147483648) ∧ ((a1 = (-1) → Rt (some (.inl (σ.1 535 0))) σ) ∧ (¬ a1 = (-1) → T143 [.inr (some (4, 0)), .inl a1] σ (0, 0) (fun r σ1 => X 17 [some (.inr (some (4, 0))), some (.inl a1)] (r.toList ++ []) σ1 (0, 0))))) : X 0 [some (.inr (some (4, 0))), some (.inl a1)] [] σ (0, 0) := by
  refine ru_ok hX (fun hok => ?_)
  replace h := h hok
  refine ru_iload_n hX dX4_matches_0 rfl (fun _ => ?_)
  refine ru_iconst hX dX4_matches_1 (fun _ => ?_)
  obtain ⟨k1, h⟩ := h
  refine ru_icmp_ne (tgt := 12) hX dX4_matches_2 (by decide) k1 (by unfold eh_r; decide) (fun q => ?_) (fun q => ?_)
  · have q2 := q
    replace h := h.2 q2
    refine ru_aload_n hX dX4_matches_12 rfl (fun _ => ?_)
    refine ru_iload_n hX dX4_matches_13 rfl (fun _ => ?_)
    exact ru_callV (as := [.inr (some (4, 0)), .inl a1]) (rest := []) hX dX4_matches_14 hc143 rfl (Nat.le_of_ble_eq_true rfl) (0, 0) ⟨Nat.zero_le _, Nat.zero_le _⟩ h
  · have q3 := q
    replace h := h.1 q3
    refine ru_aload_n hX dX4_matches_5 rfl (fun _ => ?_)
    refine ru_get (v := .inl (σ.1 535 0)) hX dX4_matches_6 rfl ⟨by decide, by decide⟩ rfl (fun _ => ?_)
    refine ru_goto (tgt := 30) hX dX4_matches_9 (by decide) ?_
    exact ru_ireturn hX dX4_matches_30 (Or.inl rfl) ⟨Nat.zero_le _, Nat.zero_le _⟩ (fun _ => h)
theorem bX4_matches_17 {cs ss : Nat → Option (Nat × eh_T)} {lim : Nat × Nat} {Rt : Option eh_V → eh_S → Prop} {X : eh_X} (hX : eh_Ru eh_nX eh_fl4 eh_kn4 cs ss lim Rt 0 cX4_matches X)  {σ : eh_S}  {a1 : Int} {s0 : Int}  (h : eh_ok σ → (-2147483648 ≤ s0 ∧ s0 < 2147483648) ∧ ((s0 = 0 → Rt (some (.inl (-1))) σ) ∧ (¬ s0 = 0 → (0 ≤ a1 ∧ a1 < 8) ∧ Rt (some (.inl (σ.2 523 0 a1))) σ))) : X 17 [some (.inr (some (4, 0))), some (.inl a1)] [.inl s0] σ (0, 0) := by
  refine ru_ok hX (fun hok => ?_)
  replace h := h hok
  obtain ⟨k1, h⟩ := h
  refine ru_if_eq (tgt := 29) hX dX4_matches_17 (by decide) k1 (fun q => ?_) (fun q => ?_)
  · have q2 := q
    replace h := h.1 q2
    refine ru_iconst hX dX4_matches_29 (fun _ => ?_)
    exact ru_ireturn hX dX4_matches_30 (Or.inl rfl) ⟨Nat.zero_le _, Nat.zero_le _⟩ (fun _ => h)
  · have q3 := q
    replace h := h.2 q3
    refine ru_aload_n hX dX4_matches_20 rfl (fun _ => ?_)
    refine ru_get (v := .inr (some (523, 0))) hX dX4_matches_21 rfl ⟨by decide, by decide⟩ rfl (fun _ => ?_)
    refine ru_iload_n hX dX4_matches_24 rfl (fun _ => ?_)
    obtain ⟨k4, h⟩ := h
    refine ru_iaload hX dX4_matches_25 ⟨by decide, by decide⟩ rfl k4 (fun _ => ?_)
    refine ru_goto (tgt := 30) hX dX4_matches_26 (by decide) ?_
    exact ru_ireturn hX dX4_matches_30 (Or.inl rfl) ⟨Nat.zero_le _, Nat.zero_le _⟩ (fun _ => h)
theorem bX4_match_0 {cs ss : Nat → Option (Nat × eh_T)} {lim : Nat × Nat} {Rt : Option eh_V → eh_S → Prop} {X : eh_X} (hX : eh_Ru eh_nX eh_fl4 eh_kn4 cs ss lim Rt 0 cX4_match X) {T224 : eh_T} (hc224 : cs 224 = some (2, T224)) {σ : eh_S}  {a1 : Int} {a2 : Int}  (h : eh_ok σ → T224 [.inr (some (4, 0)), .inl a1] σ (0, 0) (fun r σ1 => X 5 [some (.inr (some (4, 0))), some (.inl a1), some (.inl a2)] (r.toList ++ []) σ1 (0, 0))) : X 0 [some (.inr (some (4, 0))), some (.inl a1), some (.inl a2)] [] σ (0, 0) := by
  refine ru_ok hX (fun hok => ?_)
  replace h := h hok
  refine ru_aload_n hX dX4_match_0 rfl (fun _ => ?_)
  refine ru_iload_n hX dX4_match_1 rfl (fun _ => ?_)
  exact ru_callV (as := [.inr (some (4, 0)), .inl a1]) (rest := []) hX dX4_match_2 hc224 rfl (Nat.le_of_ble_eq_true rfl) (0, 0) ⟨Nat.zero_le _, Nat.zero_le _⟩ h
theorem bX4_match_5 {cs ss : Nat → Option (Nat × eh_T)} {lim : Nat × Nat} {Rt : Option eh_V → eh_S → Prop} {X : eh_X} (hX : eh_Ru eh_nX eh_fl4 eh_kn4 cs ss lim Rt 0 cX4_match X)  {σ : eh_S}  {a1 : Int} {a2 : Int} {s0 : Int}  (h : eh_ok σ → (-2147483648 ≤ s0 ∧ s0 < 2147483648) ∧ ((s0 = 0 → Rt (some (.inl (-1))) σ) ∧ (¬ s0 = 0 → (-2147483648 ≤ a2 ∧ a2 < 2147483648) ∧ (((a2 < 0 ∨ 3 < a2) → Rt (some (.inl (-1))) σ) ∧ (a2 = 0 → (0 ≤ a1 ∧ a1 < 1000) ∧ Rt (some (.inl (σ.2 536 0 a1))) σ) ∧ (a2 = 1 → (0 ≤ a1 ∧ a1 < 1000) ∧ Rt (some (.inl (σ.2 537 0 a1))) σ) ∧ (a2 = 2 → (0 ≤ 24 * a1 ∧ 24 * a1 < 24000) ∧ Rt (some (.inl (σ.2 538 0 (24 * a1)))) σ) ∧ (a2 = 3 → (0 ≤ a1 ∧ a1 < 1000) ∧ (0 ≤ ((24 * a1) + (σ.2 537 0 a1)) - 1 ∧ ((24 * a1) + (σ.2 537 0 a1)) - 1 < 24000) ∧ Rt (some (.inl (σ.2 538 0 (((24 * a1) + (σ.2 537 0 a1)) - 1)))) σ))))) : X 5 [some (.inr (some (4, 0))), some (.inl a1), some (.inl a2)] [.inl s0] σ (0, 0) := by
  refine ru_ok hX (fun hok => ?_)
  replace h := h hok
  obtain ⟨k1, h⟩ := h
  refine ru_if_ne (tgt := 10) hX dX4_match_5 (by decide) k1 (fun q => ?_) (fun q => ?_)
  · have q2 := q
    replace h := h.2 q2
    refine ru_iload_n hX dX4_match_10 rfl (fun _ => ?_)
    obtain ⟨k3, h⟩ := h
    refine ru_tsw (tgt := 83) hX dX4_match_11 (by decide) k3 (fun q => ?_) (fun q1 q2 => ?_)
    · replace h := h.1 q
      refine ru_iconst hX dX4_match_83 (fun _ => ?_)
      exact ru_ireturn hX dX4_match_84 (Or.inl rfl) ⟨Nat.zero_le _, Nat.zero_le _⟩ (fun _ => h)
    · replace h := h.2
      rcases (show a2 = 0 ∨ a2 = 1 ∨ a2 = 2 ∨ a2 = 3 by omega) with q | q | q | q
      · refine ⟨29, 40, by rw [q]; rfl, by decide, ?_⟩
        replace h := h.1 q
        refine ru_aload_n hX dX4_match_40 rfl (fun _ => ?_)
        refine ru_get (v := .inr (some (536, 0))) hX dX4_match_41 rfl ⟨by decide, by decide⟩ rfl (fun _ => ?_)
        refine ru_iload_n hX dX4_match_44 rfl (fun _ => ?_)
        obtain ⟨k4, h⟩ := h
        refine ru_iaload hX dX4_match_45 ⟨by decide, by decide⟩ rfl k4 (fun _ => ?_)
        exact ru_ireturn hX dX4_match_46 (Or.inl rfl) ⟨Nat.zero_le _, Nat.zero_le _⟩ (fun _ => h)
      · refine ⟨36, 47, by rw [q]; rfl, by decide, ?_⟩
        replace h := h.2.1 q
        refine ru_aload_n hX dX4_match_47 rfl (fun _ => ?_)
        refine ru_get (v := .inr (some (537, 0))) hX dX4_match_48 rfl ⟨by decide, by decide⟩ rfl (fun _ => ?_)
        refine ru_iload_n hX dX4_match_51 rfl (fun _ => ?_)
        obtain ⟨k5, h⟩ := h
        refine ru_iaload hX dX4_match_52 ⟨by decide, by decide⟩ rfl k5 (fun _ => ?_)
        exact ru_ireturn hX dX4_match_53 (Or.inl rfl) ⟨Nat.zero_le _, Nat.zero_le _⟩ (fun _ => h)
      · refine ⟨43, 54, by rw [q]; rfl, by decide, ?_⟩
        replace h := h.2.2.1 q
        refine ru_aload_n hX dX4_match_54 rfl (fun _ => ?_)
        refine ru_get (v := .inr (some (538, 0))) hX dX4_match_55 rfl ⟨by decide, by decide⟩ rfl (fun _ => ?_)
        refine ru_bipush hX dX4_match_58 (by decide) (fun _ => ?_)
        refine ru_iload_n hX dX4_match_60 rfl (fun _ => ?_)
        refine ru_imul hX dX4_match_61 (fun _ => ?_)
        obtain ⟨k6, h⟩ := h
        refine ru_iaload hX dX4_match_62 ⟨by decide, by decide⟩ rfl k6 (fun _ => ?_)
        exact ru_ireturn hX dX4_match_63 (Or.inl rfl) ⟨Nat.zero_le _, Nat.zero_le _⟩ (fun _ => h)
      · refine ⟨53, 64, by rw [q]; rfl, by decide, ?_⟩
        replace h := h.2.2.2 q
        refine ru_aload_n hX dX4_match_64 rfl (fun _ => ?_)
        refine ru_get (v := .inr (some (538, 0))) hX dX4_match_65 rfl ⟨by decide, by decide⟩ rfl (fun _ => ?_)
        refine ru_bipush hX dX4_match_68 (by decide) (fun _ => ?_)
        refine ru_iload_n hX dX4_match_70 rfl (fun _ => ?_)
        refine ru_imul hX dX4_match_71 (fun _ => ?_)
        refine ru_aload_n hX dX4_match_72 rfl (fun _ => ?_)
        refine ru_get (v := .inr (some (537, 0))) hX dX4_match_73 rfl ⟨by decide, by decide⟩ rfl (fun _ => ?_)
        refine ru_iload_n hX dX4_match_76 rfl (fun _ => ?_)
        obtain ⟨k7, h⟩ := h
        refine ru_iaload hX dX4_match_77 ⟨by decide, by decide⟩ rfl k7 (fun _ => ?_)
        refine ru_iadd hX dX4_match_78 (fun _ => ?_)
        refine ru_iconst hX dX4_match_79 (fun _ => ?_)
        refine ru_isub hX dX4_match_80 (fun _ => ?_)
        obtain ⟨k8, h⟩ := h
        refine ru_iaload hX dX4_match_81 ⟨by decide, by decide⟩ rfl k8 (fun _ => ?_)
        exact ru_ireturn hX dX4_match_82 (Or.inl rfl) ⟨Nat.zero_le _, Nat.zero_le _⟩ (fun _ => h)
  · have q9 := q
    replace h := h.1 q9
    refine ru_iconst hX dX4_match_8 (fun _ => ?_)
    exact ru_ireturn hX dX4_match_9 (Or.inl rfl) ⟨Nat.zero_le _, Nat.zero_le _⟩ (fun _ => h)
theorem bX4_isMatch_0 {cs ss : Nat → Option (Nat × eh_T)} {lim : Nat × Nat} {Rt : Option eh_V → eh_S → Prop} {X : eh_X} (hX : eh_Ru eh_nX eh_fl4 eh_kn4 cs ss lim Rt 1 cX4_isMatch X)  {σ : eh_S}  {a1 : Int}  (h : eh_ok σ → (-2147483648 ≤ a1 ∧ a1 < 2147483648) ∧ ((a1 < 0 → Rt (some (.inl 0)) σ) ∧ (¬ a1 < 0 → ((σ.1 535 0 ≤ a1 → Rt (some (.inl 0)) σ) ∧ (¬ σ.1 535 0 ≤ a1 → ((1000 ≤ a1 → Rt (some (.inl 0)) σ) ∧ (¬ 1000 ≤ a1 → Rt (some (.inl 1)) σ))))))) : X 0 [some (.inr (some (4, 0))), some (.inl a1)] [] σ (0, 0) := by
  refine ru_ok hX (fun hok => ?_)
  replace h := h hok
  refine ru_iload_n hX dX4_isMatch_0 rfl (fun _ => ?_)
  obtain ⟨k1, h⟩ := h
  refine ru_if_lt (tgt := 23) hX dX4_isMatch_1 (by decide) k1 (fun q => ?_) (fun q => ?_)
  · have q2 := q
    replace h := h.1 q2
    refine ru_iconst hX dX4_isMatch_23 (fun _ => ?_)
    exact ru_ireturn hX dX4_isMatch_24 (Or.inr ⟨rfl, by decide⟩) ⟨Nat.zero_le _, Nat.zero_le _⟩ (fun _ => h)
  · have q3 := q
    replace h := h.2 q3
    refine ru_iload_n hX dX4_isMatch_4 rfl (fun _ => ?_)
    refine ru_aload_n hX dX4_isMatch_5 rfl (fun _ => ?_)
    refine ru_get (v := .inl (σ.1 535 0)) hX dX4_isMatch_6 rfl ⟨by decide, by decide⟩ rfl (fun _ => ?_)
    refine ru_icmp_ge (tgt := 23) hX dX4_isMatch_9 (by decide) k1 (hok.1 _ _) (fun q => ?_) (fun q => ?_)
    · have q4 := q
      replace h := h.1 q4
      refine ru_iconst hX dX4_isMatch_23 (fun _ => ?_)
      exact ru_ireturn hX dX4_isMatch_24 (Or.inr ⟨rfl, by decide⟩) ⟨Nat.zero_le _, Nat.zero_le _⟩ (fun _ => h)
    · have q5 := q
      replace h := h.2 q5
      refine ru_iload_n hX dX4_isMatch_12 rfl (fun _ => ?_)
      refine ru_sipush hX dX4_isMatch_13 (by decide) (fun _ => ?_)
      refine ru_icmp_ge (tgt := 23) hX dX4_isMatch_16 (by decide) k1 (by unfold eh_r; decide) (fun q => ?_) (fun q => ?_)
      · have q6 := q
        replace h := h.1 q6
        refine ru_iconst hX dX4_isMatch_23 (fun _ => ?_)
        exact ru_ireturn hX dX4_isMatch_24 (Or.inr ⟨rfl, by decide⟩) ⟨Nat.zero_le _, Nat.zero_le _⟩ (fun _ => h)
      · have q7 := q
        replace h := h.2 q7
        refine ru_iconst hX dX4_isMatch_19 (fun _ => ?_)
        refine ru_goto (tgt := 24) hX dX4_isMatch_20 (by decide) ?_
        exact ru_ireturn hX dX4_isMatch_24 (Or.inr ⟨rfl, by decide⟩) ⟨Nat.zero_le _, Nat.zero_le _⟩ (fun _ => h)
theorem bX4_member_0 {cs ss : Nat → Option (Nat × eh_T)} {lim : Nat × Nat} {Rt : Option eh_V → eh_S → Prop} {X : eh_X} (hX : eh_Ru eh_nX eh_fl4 eh_kn4 cs ss lim Rt 0 cX4_member X) {T224 : eh_T} (hc224 : cs 224 = some (2, T224)) {σ : eh_S}  {a1 : Int} {a2 : Int} {a3 : Int}  (h : eh_ok σ → T224 [.inr (some (4, 0)), .inl a1] σ (0, 0) (fun r σ1 => X 5 [some (.inr (some (4, 0))), some (.inl a1), some (.inl a2), some (.inl a3)] (r.toList ++ []) σ1 (0, 0))) : X 0 [some (.inr (some (4, 0))), some (.inl a1), some (.inl a2), some (.inl a3)] [] σ (0, 0) := by
  refine ru_ok hX (fun hok => ?_)
  replace h := h hok
  refine ru_aload_n hX dX4_member_0 rfl (fun _ => ?_)
  refine ru_iload_n hX dX4_member_1 rfl (fun _ => ?_)
  exact ru_callV (as := [.inr (some (4, 0)), .inl a1]) (rest := []) hX dX4_member_2 hc224 rfl (Nat.le_of_ble_eq_true rfl) (0, 0) ⟨Nat.zero_le _, Nat.zero_le _⟩ h
theorem bX4_member_5 {cs ss : Nat → Option (Nat × eh_T)} {lim : Nat × Nat} {Rt : Option eh_V → eh_S → Prop} {X : eh_X} (hX : eh_Ru eh_nX eh_fl4 eh_kn4 cs ss lim Rt 0 cX4_member X)  {σ : eh_S}  {a1 : Int} {a2 : Int} {a3 : Int} {s0 : Int}  (h : eh_ok σ → (-2147483648 ≤ s0 ∧ s0 < 2147483648) ∧ ((s0 = 0 → Rt (some (.inl (-1))) σ) ∧ (¬ s0 = 0 → (-2147483648 ≤ a2 ∧ a2 < 2147483648) ∧ ((a2 < 0 → Rt (some (.inl (-1))) σ) ∧ (¬ a2 < 0 → (0 ≤ a1 ∧ a1 < 1000) ∧ ((σ.2 537 0 a1 ≤ a2 → Rt (some (.inl (-1))) σ) ∧ (¬ σ.2 537 0 a1 ≤ a2 → (-2147483648 ≤ a3 ∧ a3 < 2147483648) ∧ ((a3 < 0 → Rt (some (.inl (-1))) σ) ∧ (¬ a3 < 0 → ((a3 ≤ 1 → ((a3 = 0 → (0 ≤ (24 * a1) + a2 ∧ (24 * a1) + a2 < 24000) ∧ Rt (some (.inl (σ.2 538 0 ((24 * a1) + a2)))) σ) ∧ (¬ a3 = 0 → (0 ≤ (24 * a1) + a2 ∧ (24 * a1) + a2 < 24000) ∧ Rt (some (.inl (σ.2 539 0 ((24 * a1) + a2)))) σ))) ∧ (¬ a3 ≤ 1 → Rt (some (.inl (-1))) σ))))))))))) : X 5 [some (.inr (some (4, 0))), some (.inl a1), some (.inl a2), some (.inl a3)] [.inl s0] σ (0, 0) := by
  refine ru_ok hX (fun hok => ?_)
  replace h := h hok
  obtain ⟨k1, h⟩ := h
  refine ru_if_eq (tgt := 31) hX dX4_member_5 (by decide) k1 (fun q => ?_) (fun q => ?_)
  · have q2 := q
    replace h := h.1 q2
    refine ru_iconst hX dX4_member_31 (fun _ => ?_)
    exact ru_ireturn hX dX4_member_32 (Or.inl rfl) ⟨Nat.zero_le _, Nat.zero_le _⟩ (fun _ => h)
  · have q3 := q
    replace h := h.2 q3
    refine ru_iload_n hX dX4_member_8 rfl (fun _ => ?_)
    obtain ⟨k4, h⟩ := h
    refine ru_if_lt (tgt := 31) hX dX4_member_9 (by decide) k4 (fun q => ?_) (fun q => ?_)
    · have q5 := q
      replace h := h.1 q5
      refine ru_iconst hX dX4_member_31 (fun _ => ?_)
      exact ru_ireturn hX dX4_member_32 (Or.inl rfl) ⟨Nat.zero_le _, Nat.zero_le _⟩ (fun _ => h)
    · have q6 := q
      replace h := h.2 q6
      refine ru_iload_n hX dX4_member_12 rfl (fun _ => ?_)
      refine ru_aload_n hX dX4_member_13 rfl (fun _ => ?_)
      refine ru_get (v := .inr (some (537, 0))) hX dX4_member_14 rfl ⟨by decide, by decide⟩ rfl (fun _ => ?_)
      refine ru_iload_n hX dX4_member_17 rfl (fun _ => ?_)
      obtain ⟨k7, h⟩ := h
      refine ru_iaload hX dX4_member_18 ⟨by decide, by decide⟩ rfl k7 (fun _ => ?_)
      refine ru_icmp_ge (tgt := 31) hX dX4_member_19 (by decide) k4 (hok.2 _ _ _ (by decide) (by decide) (by decide) (by decide)) (fun q => ?_) (fun q => ?_)
      · have q8 := q
        replace h := h.1 q8
        refine ru_iconst hX dX4_member_31 (fun _ => ?_)
        exact ru_ireturn hX dX4_member_32 (Or.inl rfl) ⟨Nat.zero_le _, Nat.zero_le _⟩ (fun _ => h)
      · have q9 := q
        replace h := h.2 q9
        refine ru_iload_n hX dX4_member_22 rfl (fun _ => ?_)
        obtain ⟨k10, h⟩ := h
        refine ru_if_lt (tgt := 31) hX dX4_member_23 (by decide) k10 (fun q => ?_) (fun q => ?_)
        · have q11 := q
          replace h := h.1 q11
          refine ru_iconst hX dX4_member_31 (fun _ => ?_)
          exact ru_ireturn hX dX4_member_32 (Or.inl rfl) ⟨Nat.zero_le _, Nat.zero_le _⟩ (fun _ => h)
        · have q12 := q
          replace h := h.2 q12
          refine ru_iload_n hX dX4_member_26 rfl (fun _ => ?_)
          refine ru_iconst hX dX4_member_27 (fun _ => ?_)
          refine ru_icmp_le (tgt := 33) hX dX4_member_28 (by decide) k10 (by unfold eh_r; decide) (fun q => ?_) (fun q => ?_)
          · have q13 := q
            replace h := h.1 q13
            refine ru_iload_n hX dX4_member_33 rfl (fun _ => ?_)
            refine ru_if_ne (tgt := 51) hX dX4_member_34 (by decide) k10 (fun q => ?_) (fun q => ?_)
            · have q14 := q
              replace h := h.2 q14
              refine ru_aload_n hX dX4_member_51 rfl (fun _ => ?_)
              refine ru_get (v := .inr (some (539, 0))) hX dX4_member_52 rfl ⟨by decide, by decide⟩ rfl (fun _ => ?_)
              refine ru_bipush hX dX4_member_55 (by decide) (fun _ => ?_)
              refine ru_iload_n hX dX4_member_57 rfl (fun _ => ?_)
              refine ru_imul hX dX4_member_58 (fun _ => ?_)
              refine ru_iload_n hX dX4_member_59 rfl (fun _ => ?_)
              refine ru_iadd hX dX4_member_60 (fun _ => ?_)
              obtain ⟨k15, h⟩ := h
              refine ru_iaload hX dX4_member_61 ⟨by decide, by decide⟩ rfl k15 (fun _ => ?_)
              exact ru_ireturn hX dX4_member_62 (Or.inl rfl) ⟨Nat.zero_le _, Nat.zero_le _⟩ (fun _ => h)
            · have q16 := q
              replace h := h.1 q16
              refine ru_aload_n hX dX4_member_37 rfl (fun _ => ?_)
              refine ru_get (v := .inr (some (538, 0))) hX dX4_member_38 rfl ⟨by decide, by decide⟩ rfl (fun _ => ?_)
              refine ru_bipush hX dX4_member_41 (by decide) (fun _ => ?_)
              refine ru_iload_n hX dX4_member_43 rfl (fun _ => ?_)
              refine ru_imul hX dX4_member_44 (fun _ => ?_)
              refine ru_iload_n hX dX4_member_45 rfl (fun _ => ?_)
              refine ru_iadd hX dX4_member_46 (fun _ => ?_)
              obtain ⟨k17, h⟩ := h
              refine ru_iaload hX dX4_member_47 ⟨by decide, by decide⟩ rfl k17 (fun _ => ?_)
              refine ru_goto (tgt := 62) hX dX4_member_48 (by decide) ?_
              exact ru_ireturn hX dX4_member_62 (Or.inl rfl) ⟨Nat.zero_le _, Nat.zero_le _⟩ (fun _ => h)
          · have q18 := q
            replace h := h.2 q18
            refine ru_iconst hX dX4_member_31 (fun _ => ?_)
            exact ru_ireturn hX dX4_member_32 (Or.inl rfl) ⟨Nat.zero_le _, Nat.zero_le _⟩ (fun _ => h)
theorem bX4_told_0 {cs ss : Nat → Option (Nat × eh_T)} {lim : Nat × Nat} {Rt : Option eh_V → eh_S → Prop} {X : eh_X} (hX : eh_Ru eh_nX eh_fl4 eh_kn4 cs ss lim Rt 0 cX4_told X) {T227 : eh_T} (hc227 : cs 227 = some (2, T227)) {σ : eh_S}  {a1 : Int} {a2 : Int}  (h : eh_ok σ → (-2147483648 ≤ a1 ∧ a1 < 2147483648) ∧ ((a1 < 0 → Rt (some (.inl (-2000))) σ) ∧ (¬ a1 < 0 → ((σ.1 508 0 ≤ a1 → Rt (some (.inl (-2000))) σ) ∧ (¬ σ.1 508 0 ≤ a1 → (-2147483648 ≤ a2 ∧ a2 < 2147483648) ∧ ((a2 < 0 → Rt (some (.inl (-2000))) σ) ∧ (¬ a2 < 0 → ((a2 ≤ 7 → (((a2 < 0 ∨ 7 < a2) → (0 ≤ ((4 * a1) + a2) - 3 ∧ ((4 * a1) + a2) - 3 < 4000) ∧ Rt (some (.inl (σ.2 512 0 (((4 * a1) + a2) - 3)))) σ) ∧ (a2 = 0 → (0 ≤ a1 ∧ a1 < 1000) ∧ Rt (some (.inl (σ.2 509 0 a1))) σ) ∧ (a2 = 1 → (0 ≤ a1 ∧ a1 < 1000) ∧ Rt (some (.inl (σ.2 510 0 a1))) σ) ∧ (a2 = 2 → (0 ≤ a1 ∧ a1 < 1000) ∧ Rt (some (.inl (σ.2 511 0 a1))) σ) ∧ (a2 = 3 → (0 ≤ ((4 * a1) + a2) - 3 ∧ ((4 * a1) + a2) - 3 < 4000) ∧ Rt (some (.inl (σ.2 512 0 (((4 * a1) + a2) - 3)))) σ) ∧ (a2 = 4 → (0 ≤ ((4 * a1) + a2) - 3 ∧ ((4 * a1) + a2) - 3 < 4000) ∧ Rt (some (.inl (σ.2 512 0 (((4 * a1) + a2) - 3)))) σ) ∧ (a2 = 5 → (0 ≤ ((4 * a1) + a2) - 3 ∧ ((4 * a1) + a2) - 3 < 4000) ∧ Rt (some (.inl (σ.2 512 0 (((4 * a1) + a2) - 3)))) σ) ∧ (a2 = 6 → (0 ≤ ((4 * a1) + a2) - 3 ∧ ((4 * a1) + a2) - 3 < 4000) ∧ Rt (some (.inl (σ.2 512 0 (((4 * a1) + a2) - 3)))) σ) ∧ (a2 = 7 → T227 [.inr (some (4, 0)), .inl a1] σ (0, 0) (fun r σ1 => X 98 [some (.inr (some (4, 0))), some (.inl a1), some (.inl a2)] (r.toList ++ []) σ1 (0, 0))))) ∧ (¬ a2 ≤ 7 → Rt (some (.inl (-2000))) σ))))))))) : X 0 [some (.inr (some (4, 0))), some (.inl a1), some (.inl a2)] [] σ (0, 0) := by
  refine ru_ok hX (fun hok => ?_)
  replace h := h hok
  refine ru_iload_n hX dX4_told_0 rfl (fun _ => ?_)
  obtain ⟨k1, h⟩ := h
  refine ru_if_lt (tgt := 22) hX dX4_told_1 (by decide) k1 (fun q => ?_) (fun q => ?_)
  · have q2 := q
    replace h := h.1 q2
    refine ru_sipush hX dX4_told_22 (by decide) (fun _ => ?_)
    exact ru_ireturn hX dX4_told_25 (Or.inl rfl) ⟨Nat.zero_le _, Nat.zero_le _⟩ (fun _ => h)
  · have q3 := q
    replace h := h.2 q3
    refine ru_iload_n hX dX4_told_4 rfl (fun _ => ?_)
    refine ru_aload_n hX dX4_told_5 rfl (fun _ => ?_)
    refine ru_get (v := .inl (σ.1 508 0)) hX dX4_told_6 rfl ⟨by decide, by decide⟩ rfl (fun _ => ?_)
    refine ru_icmp_ge (tgt := 22) hX dX4_told_9 (by decide) k1 (hok.1 _ _) (fun q => ?_) (fun q => ?_)
    · have q4 := q
      replace h := h.1 q4
      refine ru_sipush hX dX4_told_22 (by decide) (fun _ => ?_)
      exact ru_ireturn hX dX4_told_25 (Or.inl rfl) ⟨Nat.zero_le _, Nat.zero_le _⟩ (fun _ => h)
    · have q5 := q
      replace h := h.2 q5
      refine ru_iload_n hX dX4_told_12 rfl (fun _ => ?_)
      obtain ⟨k6, h⟩ := h
      refine ru_if_lt (tgt := 22) hX dX4_told_13 (by decide) k6 (fun q => ?_) (fun q => ?_)
      · have q7 := q
        replace h := h.1 q7
        refine ru_sipush hX dX4_told_22 (by decide) (fun _ => ?_)
        exact ru_ireturn hX dX4_told_25 (Or.inl rfl) ⟨Nat.zero_le _, Nat.zero_le _⟩ (fun _ => h)
      · have q8 := q
        replace h := h.2 q8
        refine ru_iload_n hX dX4_told_16 rfl (fun _ => ?_)
        refine ru_bipush hX dX4_told_17 (by decide) (fun _ => ?_)
        refine ru_icmp_le (tgt := 26) hX dX4_told_19 (by decide) k6 (by unfold eh_r; decide) (fun q => ?_) (fun q => ?_)
        · have q9 := q
          replace h := h.1 q9
          refine ru_iload_n hX dX4_told_26 rfl (fun _ => ?_)
          refine ru_tsw (tgt := 99) hX dX4_told_27 (by decide) k6 (fun q => ?_) (fun q1 q2 => ?_)
          · replace h := h.1 q
            refine ru_aload_n hX dX4_told_99 rfl (fun _ => ?_)
            refine ru_get (v := .inr (some (512, 0))) hX dX4_told_100 rfl ⟨by decide, by decide⟩ rfl (fun _ => ?_)
            refine ru_iconst hX dX4_told_103 (fun _ => ?_)
            refine ru_iload_n hX dX4_told_104 rfl (fun _ => ?_)
            refine ru_imul hX dX4_told_105 (fun _ => ?_)
            refine ru_iload_n hX dX4_told_106 rfl (fun _ => ?_)
            refine ru_iadd hX dX4_told_107 (fun _ => ?_)
            refine ru_iconst hX dX4_told_108 (fun _ => ?_)
            refine ru_isub hX dX4_told_109 (fun _ => ?_)
            obtain ⟨k10, h⟩ := h
            refine ru_iaload hX dX4_told_110 ⟨by decide, by decide⟩ rfl k10 (fun _ => ?_)
            exact ru_ireturn hX dX4_told_111 (Or.inl rfl) ⟨Nat.zero_le _, Nat.zero_le _⟩ (fun _ => h)
          · replace h := h.2
            rcases (show a2 = 0 ∨ a2 = 1 ∨ a2 = 2 ∨ a2 = 3 ∨ a2 = 4 ∨ a2 = 5 ∨ a2 = 6 ∨ a2 = 7 by omega) with q | q | q | q | q | q | q | q
            · refine ⟨45, 72, by rw [q]; rfl, by decide, ?_⟩
              replace h := h.1 q
              refine ru_aload_n hX dX4_told_72 rfl (fun _ => ?_)
              refine ru_get (v := .inr (some (509, 0))) hX dX4_told_73 rfl ⟨by decide, by decide⟩ rfl (fun _ => ?_)
              refine ru_iload_n hX dX4_told_76 rfl (fun _ => ?_)
              obtain ⟨k11, h⟩ := h
              refine ru_iaload hX dX4_told_77 ⟨by decide, by decide⟩ rfl k11 (fun _ => ?_)
              exact ru_ireturn hX dX4_told_78 (Or.inl rfl) ⟨Nat.zero_le _, Nat.zero_le _⟩ (fun _ => h)
            · refine ⟨52, 79, by rw [q]; rfl, by decide, ?_⟩
              replace h := h.2.1 q
              refine ru_aload_n hX dX4_told_79 rfl (fun _ => ?_)
              refine ru_get (v := .inr (some (510, 0))) hX dX4_told_80 rfl ⟨by decide, by decide⟩ rfl (fun _ => ?_)
              refine ru_iload_n hX dX4_told_83 rfl (fun _ => ?_)
              obtain ⟨k12, h⟩ := h
              refine ru_iaload hX dX4_told_84 ⟨by decide, by decide⟩ rfl k12 (fun _ => ?_)
              exact ru_ireturn hX dX4_told_85 (Or.inl rfl) ⟨Nat.zero_le _, Nat.zero_le _⟩ (fun _ => h)
            · refine ⟨59, 86, by rw [q]; rfl, by decide, ?_⟩
              replace h := h.2.2.1 q
              refine ru_aload_n hX dX4_told_86 rfl (fun _ => ?_)
              refine ru_get (v := .inr (some (511, 0))) hX dX4_told_87 rfl ⟨by decide, by decide⟩ rfl (fun _ => ?_)
              refine ru_iload_n hX dX4_told_90 rfl (fun _ => ?_)
              obtain ⟨k13, h⟩ := h
              refine ru_iaload hX dX4_told_91 ⟨by decide, by decide⟩ rfl k13 (fun _ => ?_)
              exact ru_ireturn hX dX4_told_92 (Or.inl rfl) ⟨Nat.zero_le _, Nat.zero_le _⟩ (fun _ => h)
            · refine ⟨72, 99, by rw [q]; rfl, by decide, ?_⟩
              replace h := h.2.2.2.1 q
              refine ru_aload_n hX dX4_told_99 rfl (fun _ => ?_)
              refine ru_get (v := .inr (some (512, 0))) hX dX4_told_100 rfl ⟨by decide, by decide⟩ rfl (fun _ => ?_)
              refine ru_iconst hX dX4_told_103 (fun _ => ?_)
              refine ru_iload_n hX dX4_told_104 rfl (fun _ => ?_)
              refine ru_imul hX dX4_told_105 (fun _ => ?_)
              refine ru_iload_n hX dX4_told_106 rfl (fun _ => ?_)
              refine ru_iadd hX dX4_told_107 (fun _ => ?_)
              refine ru_iconst hX dX4_told_108 (fun _ => ?_)
              refine ru_isub hX dX4_told_109 (fun _ => ?_)
              obtain ⟨k14, h⟩ := h
              refine ru_iaload hX dX4_told_110 ⟨by decide, by decide⟩ rfl k14 (fun _ => ?_)
              exact ru_ireturn hX dX4_told_111 (Or.inl rfl) ⟨Nat.zero_le _, Nat.zero_le _⟩ (fun _ => h)
            · refine ⟨72, 99, by rw [q]; rfl, by decide, ?_⟩
              replace h := h.2.2.2.2.1 q
              refine ru_aload_n hX dX4_told_99 rfl (fun _ => ?_)
              refine ru_get (v := .inr (some (512, 0))) hX dX4_told_100 rfl ⟨by decide, by decide⟩ rfl (fun _ => ?_)
              refine ru_iconst hX dX4_told_103 (fun _ => ?_)
              refine ru_iload_n hX dX4_told_104 rfl (fun _ => ?_)
              refine ru_imul hX dX4_told_105 (fun _ => ?_)
              refine ru_iload_n hX dX4_told_106 rfl (fun _ => ?_)
              refine ru_iadd hX dX4_told_107 (fun _ => ?_)
              refine ru_iconst hX dX4_told_108 (fun _ => ?_)
              refine ru_isub hX dX4_told_109 (fun _ => ?_)
              obtain ⟨k15, h⟩ := h
              refine ru_iaload hX dX4_told_110 ⟨by decide, by decide⟩ rfl k15 (fun _ => ?_)
              exact ru_ireturn hX dX4_told_111 (Or.inl rfl) ⟨Nat.zero_le _, Nat.zero_le _⟩ (fun _ => h)
            · refine ⟨72, 99, by rw [q]; rfl, by decide, ?_⟩
              replace h := h.2.2.2.2.2.1 q
              refine ru_aload_n hX dX4_told_99 rfl (fun _ => ?_)
              refine ru_get (v := .inr (some (512, 0))) hX dX4_told_100 rfl ⟨by decide, by decide⟩ rfl (fun _ => ?_)
              refine ru_iconst hX dX4_told_103 (fun _ => ?_)
              refine ru_iload_n hX dX4_told_104 rfl (fun _ => ?_)
              refine ru_imul hX dX4_told_105 (fun _ => ?_)
              refine ru_iload_n hX dX4_told_106 rfl (fun _ => ?_)
              refine ru_iadd hX dX4_told_107 (fun _ => ?_)
              refine ru_iconst hX dX4_told_108 (fun _ => ?_)
              refine ru_isub hX dX4_told_109 (fun _ => ?_)
              obtain ⟨k16, h⟩ := h
              refine ru_iaload hX dX4_told_110 ⟨by decide, by decide⟩ rfl k16 (fun _ => ?_)
              exact ru_ireturn hX dX4_told_111 (Or.inl rfl) ⟨Nat.zero_le _, Nat.zero_le _⟩ (fun _ => h)
            · refine ⟨72, 99, by rw [q]; rfl, by decide, ?_⟩
              replace h := h.2.2.2.2.2.2.1 q
              refine ru_aload_n hX dX4_told_99 rfl (fun _ => ?_)
              refine ru_get (v := .inr (some (512, 0))) hX dX4_told_100 rfl ⟨by decide, by decide⟩ rfl (fun _ => ?_)
              refine ru_iconst hX dX4_told_103 (fun _ => ?_)
              refine ru_iload_n hX dX4_told_104 rfl (fun _ => ?_)
              refine ru_imul hX dX4_told_105 (fun _ => ?_)
              refine ru_iload_n hX dX4_told_106 rfl (fun _ => ?_)
              refine ru_iadd hX dX4_told_107 (fun _ => ?_)
              refine ru_iconst hX dX4_told_108 (fun _ => ?_)
              refine ru_isub hX dX4_told_109 (fun _ => ?_)
              obtain ⟨k17, h⟩ := h
              refine ru_iaload hX dX4_told_110 ⟨by decide, by decide⟩ rfl k17 (fun _ => ?_)
              exact ru_ireturn hX dX4_told_111 (Or.inl rfl) ⟨Nat.zero_le _, Nat.zero_le _⟩ (fun _ => h)
            · refine ⟨66, 93, by rw [q]; rfl, by decide, ?_⟩
              replace h := h.2.2.2.2.2.2.2 q
              refine ru_aload_n hX dX4_told_93 rfl (fun _ => ?_)
              refine ru_iload_n hX dX4_told_94 rfl (fun _ => ?_)
              exact ru_callV (as := [.inr (some (4, 0)), .inl a1]) (rest := []) hX dX4_told_95 hc227 rfl (Nat.le_of_ble_eq_true rfl) (0, 0) ⟨Nat.zero_le _, Nat.zero_le _⟩ h
        · have q18 := q
          replace h := h.2 q18
          refine ru_sipush hX dX4_told_22 (by decide) (fun _ => ?_)
          exact ru_ireturn hX dX4_told_25 (Or.inl rfl) ⟨Nat.zero_le _, Nat.zero_le _⟩ (fun _ => h)
theorem bX4_told_98 {cs ss : Nat → Option (Nat × eh_T)} {lim : Nat × Nat} {Rt : Option eh_V → eh_S → Prop} {X : eh_X} (hX : eh_Ru eh_nX eh_fl4 eh_kn4 cs ss lim Rt 0 cX4_told X)  {σ : eh_S}  {o0 : Option eh_V} {o1 : Option eh_V} {o2 : Option eh_V} {s0 : Int}  (h : eh_ok σ → Rt (some (.inl s0)) σ) : X 98 [o0, o1, o2] [.inl s0] σ (0, 0) := by
  refine ru_ok hX (fun hok => ?_)
  replace h := h hok
  exact ru_ireturn hX dX4_told_98 (Or.inl rfl) ⟨Nat.zero_le _, Nat.zero_le _⟩ (fun _ => h)
theorem bX4_matchesWith_0 {cs ss : Nat → Option (Nat × eh_T)} {lim : Nat × Nat} {Rt : Option eh_V → eh_S → Prop} {X : eh_X} (hX : eh_Ru eh_nX eh_fl4 eh_kn4 cs ss lim Rt 0 cX4_matchesWith X)  {σ : eh_S}  {a1 : Int} {o2 : Option eh_V} {o3 : Option eh_V} {o4 : Option eh_V} {o5 : Option eh_V}  (h : eh_ok σ → X 4 [some (.inr (some (4, 0))), some (.inl a1), some (.inl 0), some (.inl 0), o4, o5] [] σ (0, 0)) : X 0 [some (.inr (some (4, 0))), some (.inl a1), o2, o3, o4, o5] [] σ (0, 0) := by
  refine ru_ok hX (fun hok => ?_)
  replace h := h hok
  refine ru_iconst hX dX4_matchesWith_0 (fun _ => ?_)
  refine ru_istore_n (ls1 := [some (.inr (some (4, 0))), some (.inl a1), some (.inl 0), o3, o4, o5]) hX dX4_matchesWith_1 (Nat.le_of_ble_eq_true rfl) rfl (fun _ => ?_)
  refine ru_iconst hX dX4_matchesWith_2 (fun _ => ?_)
  refine ru_istore_n (ls1 := [some (.inr (some (4, 0))), some (.inl a1), some (.inl 0), some (.inl 0), o4, o5]) hX dX4_matchesWith_3 (Nat.le_of_ble_eq_true rfl) rfl (fun _ => ?_)
  exact h
theorem bX4_matchesWith_4 {cs ss : Nat → Option (Nat × eh_T)} {lim : Nat × Nat} {Rt : Option eh_V → eh_S → Prop} {X : eh_X} (hX : eh_Ru eh_nX eh_fl4 eh_kn4 cs ss lim Rt 0 cX4_matchesWith X)  {σ : eh_S}  {a1 : Int} {a2 : Int} {a3 : Int} {o4 : Option eh_V} {o5 : Option eh_V}  (h : eh_ok σ → (-2147483648 ≤ a3 ∧ a3 < 2147483648) ∧ ((σ.1 535 0 ≤ a3 → Rt (some (.inl a2)) σ) ∧ (¬ σ.1 535 0 ≤ a3 → ((1000 ≤ a3 → Rt (some (.inl a2)) σ) ∧ (¬ 1000 ≤ a3 → X 25 [some (.inr (some (4, 0))), some (.inl a1), some (.inl a2), some (.inl a3), some (.inl 0), some (.inl 0)] [] σ (0, 0)))))) : X 4 [some (.inr (some (4, 0))), some (.inl a1), some (.inl a2), some (.inl a3), o4, o5] [] σ (0, 0) := by
  refine ru_ok hX (fun hok => ?_)
  replace h := h hok
  refine ru_iload_n hX dX4_matchesWith_4 rfl (fun _ => ?_)
  refine ru_aload_n hX dX4_matchesWith_5 rfl (fun _ => ?_)
  refine ru_get (v := .inl (σ.1 535 0)) hX dX4_matchesWith_6 rfl ⟨by decide, by decide⟩ rfl (fun _ => ?_)
  obtain ⟨k1, h⟩ := h
  refine ru_icmp_ge (tgt := 89) hX dX4_matchesWith_9 (by decide) k1 (hok.1 _ _) (fun q => ?_) (fun q => ?_)
  · have q2 := q
    replace h := h.1 q2
    refine ru_iload_n hX dX4_matchesWith_89 rfl (fun _ => ?_)
    exact ru_ireturn hX dX4_matchesWith_90 (Or.inl rfl) ⟨Nat.zero_le _, Nat.zero_le _⟩ (fun _ => h)
  · have q3 := q
    replace h := h.2 q3
    refine ru_iload_n hX dX4_matchesWith_12 rfl (fun _ => ?_)
    refine ru_sipush hX dX4_matchesWith_13 (by decide) (fun _ => ?_)
    refine ru_icmp_ge (tgt := 89) hX dX4_matchesWith_16 (by decide) k1 (by unfold eh_r; decide) (fun q => ?_) (fun q => ?_)
    · have q4 := q
      replace h := h.1 q4
      refine ru_iload_n hX dX4_matchesWith_89 rfl (fun _ => ?_)
      exact ru_ireturn hX dX4_matchesWith_90 (Or.inl rfl) ⟨Nat.zero_le _, Nat.zero_le _⟩ (fun _ => h)
    · have q5 := q
      replace h := h.2 q5
      refine ru_iconst hX dX4_matchesWith_19 (fun _ => ?_)
      refine ru_istore (ls1 := [some (.inr (some (4, 0))), some (.inl a1), some (.inl a2), some (.inl a3), some (.inl 0), o5]) hX dX4_matchesWith_20 (Nat.le_of_ble_eq_true rfl) rfl (fun _ => ?_)
      refine ru_iconst hX dX4_matchesWith_22 (fun _ => ?_)
      refine ru_istore (ls1 := [some (.inr (some (4, 0))), some (.inl a1), some (.inl a2), some (.inl a3), some (.inl 0), some (.inl 0)]) hX dX4_matchesWith_23 (Nat.le_of_ble_eq_true rfl) rfl (fun _ => ?_)
      exact h
theorem bX4_matchesWith_25 {cs ss : Nat → Option (Nat × eh_T)} {lim : Nat × Nat} {Rt : Option eh_V → eh_S → Prop} {X : eh_X} (hX : eh_Ru eh_nX eh_fl4 eh_kn4 cs ss lim Rt 0 cX4_matchesWith X)  {σ : eh_S}  {a1 : Int} {a2 : Int} {a3 : Int} {a4 : Int} {a5 : Int}  (h : eh_ok σ → (0 ≤ a3 ∧ a3 < 1000) ∧ (-2147483648 ≤ a5 ∧ a5 < 2147483648) ∧ ((σ.2 537 0 a3 ≤ a5 → (-2147483648 ≤ a4 ∧ a4 < 2147483648) ∧ ((a4 = 0 → X 4 [some (.inr (some (4, 0))), some (.inl a1), some (.inl (a2 + 0)), some (.inl (a3 + 1)), some (.inl a4), some (.inl a5)] [] σ (0, 0)) ∧ (¬ a4 = 0 → X 4 [some (.inr (some (4, 0))), some (.inl a1), some (.inl (a2 + 1)), some (.inl (a3 + 1)), some (.inl a4), some (.inl a5)] [] σ (0, 0)))) ∧ (¬ σ.2 537 0 a3 ≤ a5 → (-2147483648 ≤ a4 ∧ a4 < 2147483648) ∧ ((a4 = 0 → (0 ≤ (24 * a3) + a5 ∧ (24 * a3) + a5 < 24000) ∧ (-2147483648 ≤ a1 ∧ a1 < 2147483648) ∧ ((σ.2 538 0 ((24 * a3) + a5) = a1 → X 25 [some (.inr (some (4, 0))), some (.inl a1), some (.inl a2), some (.inl a3), some (.inl 1), some (.inl (a5 + 1))] [] σ (0, 0)) ∧ (¬ σ.2 538 0 ((24 * a3) + a5) = a1 → X 25 [some (.inr (some (4, 0))), some (.inl a1), some (.inl a2), some (.inl a3), some (.inl 0), some (.inl (a5 + 1))] [] σ (0, 0)))) ∧ (¬ a4 = 0 → X 25 [some (.inr (some (4, 0))), some (.inl a1), some (.inl a2), some (.inl a3), some (.inl 1), some (.inl (a5 + 1))] [] σ (0, 0)))))) : X 25 [some (.inr (some (4, 0))), some (.inl a1), some (.inl a2), some (.inl a3), some (.inl a4), some (.inl a5)] [] σ (0, 0) := by
  refine ru_ok hX (fun hok => ?_)
  replace h := h hok
  refine ru_iload hX dX4_matchesWith_25 rfl (fun _ => ?_)
  refine ru_aload_n hX dX4_matchesWith_27 rfl (fun _ => ?_)
  refine ru_get (v := .inr (some (537, 0))) hX dX4_matchesWith_28 rfl ⟨by decide, by decide⟩ rfl (fun _ => ?_)
  refine ru_iload_n hX dX4_matchesWith_31 rfl (fun _ => ?_)
  obtain ⟨k1, h⟩ := h
  refine ru_iaload hX dX4_matchesWith_32 ⟨by decide, by decide⟩ rfl k1 (fun _ => ?_)
  obtain ⟨k2, h⟩ := h
  refine ru_icmp_ge (tgt := 70) hX dX4_matchesWith_33 (by decide) k2 (hok.2 _ _ _ (by decide) (by decide) (by decide) (by decide)) (fun q => ?_) (fun q => ?_)
  · have q3 := q
    replace h := h.1 q3
    refine ru_iload_n hX dX4_matchesWith_70 rfl (fun _ => ?_)
    refine ru_iload hX dX4_matchesWith_71 rfl (fun _ => ?_)
    obtain ⟨k4, h⟩ := h
    refine ru_if_eq (tgt := 80) hX dX4_matchesWith_73 (by decide) k4 (fun q => ?_) (fun q => ?_)
    · have q5 := q
      replace h := h.1 q5
      refine ru_iconst hX dX4_matchesWith_80 (fun _ => ?_)
      refine ru_iadd hX dX4_matchesWith_81 (fun _ => ?_)
      refine ru_istore_n (ls1 := [some (.inr (some (4, 0))), some (.inl a1), some (.inl (a2 + 0)), some (.inl a3), some (.inl a4), some (.inl a5)]) hX dX4_matchesWith_82 (Nat.le_of_ble_eq_true rfl) rfl (fun _ => ?_)
      refine ru_iinc (ls1 := [some (.inr (some (4, 0))), some (.inl a1), some (.inl (a2 + 0)), some (.inl (a3 + 1)), some (.inl a4), some (.inl a5)]) hX dX4_matchesWith_83 rfl rfl (fun _ => ?_)
      refine ru_goto (tgt := 4) hX dX4_matchesWith_86 (by decide) ?_
      exact h
    · have q6 := q
      replace h := h.2 q6
      refine ru_iconst hX dX4_matchesWith_76 (fun _ => ?_)
      refine ru_goto (tgt := 81) hX dX4_matchesWith_77 (by decide) ?_
      refine ru_iadd hX dX4_matchesWith_81 (fun _ => ?_)
      refine ru_istore_n (ls1 := [some (.inr (some (4, 0))), some (.inl a1), some (.inl (a2 + 1)), some (.inl a3), some (.inl a4), some (.inl a5)]) hX dX4_matchesWith_82 (Nat.le_of_ble_eq_true rfl) rfl (fun _ => ?_)
      refine ru_iinc (ls1 := [some (.inr (some (4, 0))), some (.inl a1), some (.inl (a2 + 1)), some (.inl (a3 + 1)), some (.inl a4), some (.inl a5)]) hX dX4_matchesWith_83 rfl rfl (fun _ => ?_)
      refine ru_goto (tgt := 4) hX dX4_matchesWith_86 (by decide) ?_
      exact h
  · have q7 := q
    replace h := h.2 q7
    refine ru_iload hX dX4_matchesWith_36 rfl (fun _ => ?_)
    obtain ⟨k8, h⟩ := h
    refine ru_if_ne (tgt := 57) hX dX4_matchesWith_38 (by decide) k8 (fun q => ?_) (fun q => ?_)
    · have q9 := q
      replace h := h.2 q9
      refine ru_iconst hX dX4_matchesWith_57 (fun _ => ?_)
      refine ru_goto (tgt := 62) hX dX4_matchesWith_58 (by decide) ?_
      refine ru_istore (ls1 := [some (.inr (some (4, 0))), some (.inl a1), some (.inl a2), some (.inl a3), some (.inl 1), some (.inl a5)]) hX dX4_matchesWith_62 (Nat.le_of_ble_eq_true rfl) rfl (fun _ => ?_)
      refine ru_iinc (ls1 := [some (.inr (some (4, 0))), some (.inl a1), some (.inl a2), some (.inl a3), some (.inl 1), some (.inl (a5 + 1))]) hX dX4_matchesWith_64 rfl rfl (fun _ => ?_)
      refine ru_goto (tgt := 25) hX dX4_matchesWith_67 (by decide) ?_
      exact h
    · have q10 := q
      replace h := h.1 q10
      refine ru_aload_n hX dX4_matchesWith_41 rfl (fun _ => ?_)
      refine ru_get (v := .inr (some (538, 0))) hX dX4_matchesWith_42 rfl ⟨by decide, by decide⟩ rfl (fun _ => ?_)
      refine ru_bipush hX dX4_matchesWith_45 (by decide) (fun _ => ?_)
      refine ru_iload_n hX dX4_matchesWith_47 rfl (fun _ => ?_)
      refine ru_imul hX dX4_matchesWith_48 (fun _ => ?_)
      refine ru_iload hX dX4_matchesWith_49 rfl (fun _ => ?_)
      refine ru_iadd hX dX4_matchesWith_51 (fun _ => ?_)
      obtain ⟨k11, h⟩ := h
      refine ru_iaload hX dX4_matchesWith_52 ⟨by decide, by decide⟩ rfl k11 (fun _ => ?_)
      refine ru_iload_n hX dX4_matchesWith_53 rfl (fun _ => ?_)
      obtain ⟨k12, h⟩ := h
      refine ru_icmp_ne (tgt := 61) hX dX4_matchesWith_54 (by decide) (hok.2 _ _ _ (by decide) (by decide) (by decide) (by decide)) k12 (fun q => ?_) (fun q => ?_)
      · have q13 := q
        replace h := h.2 q13
        refine ru_iconst hX dX4_matchesWith_61 (fun _ => ?_)
        refine ru_istore (ls1 := [some (.inr (some (4, 0))), some (.inl a1), some (.inl a2), some (.inl a3), some (.inl 0), some (.inl a5)]) hX dX4_matchesWith_62 (Nat.le_of_ble_eq_true rfl) rfl (fun _ => ?_)
        refine ru_iinc (ls1 := [some (.inr (some (4, 0))), some (.inl a1), some (.inl a2), some (.inl a3), some (.inl 0), some (.inl (a5 + 1))]) hX dX4_matchesWith_64 rfl rfl (fun _ => ?_)
        refine ru_goto (tgt := 25) hX dX4_matchesWith_67 (by decide) ?_
        exact h
      · have q14 := q
        replace h := h.1 q14
        refine ru_iconst hX dX4_matchesWith_57 (fun _ => ?_)
        refine ru_goto (tgt := 62) hX dX4_matchesWith_58 (by decide) ?_
        refine ru_istore (ls1 := [some (.inr (some (4, 0))), some (.inl a1), some (.inl a2), some (.inl a3), some (.inl 1), some (.inl a5)]) hX dX4_matchesWith_62 (Nat.le_of_ble_eq_true rfl) rfl (fun _ => ?_)
        refine ru_iinc (ls1 := [some (.inr (some (4, 0))), some (.inl a1), some (.inl a2), some (.inl a3), some (.inl 1), some (.inl (a5 + 1))]) hX dX4_matchesWith_64 rfl rfl (fun _ => ?_)
        refine ru_goto (tgt := 25) hX dX4_matchesWith_67 (by decide) ?_
        exact h
theorem bX4_about_0 {cs ss : Nat → Option (Nat × eh_T)} {lim : Nat × Nat} {Rt : Option eh_V → eh_S → Prop} {X : eh_X} (hX : eh_Ru eh_nX eh_fl4 eh_kn4 cs ss lim Rt 0 cX4_about X) {T143 : eh_T} (hc143 : cs 143 = some (2, T143)) {σ : eh_S}  {a1 : Int} {a2 : Int} {o3 : Option eh_V} {o4 : Option eh_V}  (h : eh_ok σ → T143 [.inr (some (4, 0)), .inl a1] σ (0, 0) (fun r σ1 => X 5 [some (.inr (some (4, 0))), some (.inl a1), some (.inl a2), o3, o4] (r.toList ++ []) σ1 (0, 0))) : X 0 [some (.inr (some (4, 0))), some (.inl a1), some (.inl a2), o3, o4] [] σ (0, 0) := by
  refine ru_ok hX (fun hok => ?_)
  replace h := h hok
  refine ru_aload_n hX dX4_about_0 rfl (fun _ => ?_)
  refine ru_iload_n hX dX4_about_1 rfl (fun _ => ?_)
  exact ru_callV (as := [.inr (some (4, 0)), .inl a1]) (rest := []) hX dX4_about_2 hc143 rfl (Nat.le_of_ble_eq_true rfl) (0, 0) ⟨Nat.zero_le _, Nat.zero_le _⟩ h
theorem bX4_about_5 {cs ss : Nat → Option (Nat × eh_T)} {lim : Nat × Nat} {Rt : Option eh_V → eh_S → Prop} {X : eh_X} (hX : eh_Ru eh_nX eh_fl4 eh_kn4 cs ss lim Rt 0 cX4_about X) {T230 : eh_T} (hc230 : cs 230 = some (1, T230)) {σ : eh_S}  {a1 : Int} {a2 : Int} {o3 : Option eh_V} {o4 : Option eh_V} {s0 : Int}  (h : eh_ok σ → (-2147483648 ≤ s0 ∧ s0 < 2147483648) ∧ ((s0 = 0 → Rt (some (.inl (-1))) σ) ∧ (¬ s0 = 0 → (-2147483648 ≤ a2 ∧ a2 < 2147483648) ∧ ((a2 < 0 → Rt (some (.inl (-1))) σ) ∧ (¬ a2 < 0 → ((a2 ≤ 5 → (((a2 < 0 ∨ 4 < a2) → T230 [.inr (some (4, 0))] σ (0, 0) (fun r σ1 => X 150 [some (.inr (some (4, 0))), some (.inl a1), some (.inl a2), some (.inl 0), o4] (r.toList ++ []) σ1 (0, 0))) ∧ (a2 = 0 → (0 ≤ a1 ∧ a1 < 8) ∧ Rt (some (.inl (σ.2 519 0 a1))) σ) ∧ (a2 = 1 → (0 ≤ a1 ∧ a1 < 8) ∧ Rt (some (.inl (σ.2 529 0 a1))) σ) ∧ (a2 = 2 → X 73 [some (.inr (some (4, 0))), some (.inl a1), some (.inl a2), some (.inl 0), some (.inl 0)] [] σ (0, 0)) ∧ (a2 = 3 → (0 ≤ a1 ∧ a1 < 8) ∧ ((σ.2 522 0 a1 = 0 → Rt (some (.inl 0)) σ) ∧ (¬ σ.2 522 0 a1 = 0 → Rt (some (.inl 1)) σ))) ∧ (a2 = 4 → (0 ≤ a1 ∧ a1 < 8) ∧ ((σ.2 521 0 a1 = 0 → Rt (some (.inl 0)) σ) ∧ (¬ σ.2 521 0 a1 = 0 → Rt (some (.inl 1)) σ))))) ∧ (¬ a2 ≤ 5 → Rt (some (.inl (-1))) σ))))))) : X 5 [some (.inr (some (4, 0))), some (.inl a1), some (.inl a2), o3, o4] [.inl s0] σ (0, 0) := by
  refine ru_ok hX (fun hok => ?_)
  replace h := h hok
  obtain ⟨k1, h⟩ := h
  refine ru_if_eq (tgt := 17) hX dX4_about_5 (by decide) k1 (fun q => ?_) (fun q => ?_)
  · have q2 := q
    replace h := h.1 q2
    refine ru_iconst hX dX4_about_17 (fun _ => ?_)
    exact ru_ireturn hX dX4_about_18 (Or.inl rfl) ⟨Nat.zero_le _, Nat.zero_le _⟩ (fun _ => h)
  · have q3 := q
    replace h := h.2 q3
    refine ru_iload_n hX dX4_about_8 rfl (fun _ => ?_)
    obtain ⟨k4, h⟩ := h
    refine ru_if_lt (tgt := 17) hX dX4_about_9 (by decide) k4 (fun q => ?_) (fun q => ?_)
    · have q5 := q
      replace h := h.1 q5
      refine ru_iconst hX dX4_about_17 (fun _ => ?_)
      exact ru_ireturn hX dX4_about_18 (Or.inl rfl) ⟨Nat.zero_le _, Nat.zero_le _⟩ (fun _ => h)
    · have q6 := q
      replace h := h.2 q6
      refine ru_iload_n hX dX4_about_12 rfl (fun _ => ?_)
      refine ru_iconst hX dX4_about_13 (fun _ => ?_)
      refine ru_icmp_le (tgt := 19) hX dX4_about_14 (by decide) k4 (by unfold eh_r; decide) (fun q => ?_) (fun q => ?_)
      · have q7 := q
        replace h := h.1 q7
        refine ru_iconst hX dX4_about_19 (fun _ => ?_)
        refine ru_istore_n (ls1 := [some (.inr (some (4, 0))), some (.inl a1), some (.inl a2), some (.inl 0), o4]) hX dX4_about_20 (Nat.le_of_ble_eq_true rfl) rfl (fun _ => ?_)
        refine ru_iload_n hX dX4_about_21 rfl (fun _ => ?_)
        refine ru_tsw (tgt := 146) hX dX4_about_22 (by decide) k4 (fun q => ?_) (fun q1 q2 => ?_)
        · replace h := h.1 q
          refine ru_aload_n hX dX4_about_146 rfl (fun _ => ?_)
          exact ru_callV (as := [.inr (some (4, 0))]) (rest := []) hX dX4_about_147 hc230 rfl (Nat.le_of_ble_eq_true rfl) (0, 0) ⟨Nat.zero_le _, Nat.zero_le _⟩ h
        · replace h := h.2
          rcases (show a2 = 0 ∨ a2 = 1 ∨ a2 = 2 ∨ a2 = 3 ∨ a2 = 4 by omega) with q | q | q | q | q
          · refine ⟨34, 56, by rw [q]; rfl, by decide, ?_⟩
            replace h := h.1 q
            refine ru_aload_n hX dX4_about_56 rfl (fun _ => ?_)
            refine ru_get (v := .inr (some (519, 0))) hX dX4_about_57 rfl ⟨by decide, by decide⟩ rfl (fun _ => ?_)
            refine ru_iload_n hX dX4_about_60 rfl (fun _ => ?_)
            obtain ⟨k8, h⟩ := h
            refine ru_iaload hX dX4_about_61 ⟨by decide, by decide⟩ rfl k8 (fun _ => ?_)
            exact ru_ireturn hX dX4_about_62 (Or.inl rfl) ⟨Nat.zero_le _, Nat.zero_le _⟩ (fun _ => h)
          · refine ⟨41, 63, by rw [q]; rfl, by decide, ?_⟩
            replace h := h.2.1 q
            refine ru_aload_n hX dX4_about_63 rfl (fun _ => ?_)
            refine ru_get (v := .inr (some (529, 0))) hX dX4_about_64 rfl ⟨by decide, by decide⟩ rfl (fun _ => ?_)
            refine ru_iload_n hX dX4_about_67 rfl (fun _ => ?_)
            obtain ⟨k9, h⟩ := h
            refine ru_iaload hX dX4_about_68 ⟨by decide, by decide⟩ rfl k9 (fun _ => ?_)
            exact ru_ireturn hX dX4_about_69 (Or.inl rfl) ⟨Nat.zero_le _, Nat.zero_le _⟩ (fun _ => h)
          · refine ⟨48, 70, by rw [q]; rfl, by decide, ?_⟩
            replace h := h.2.2.1 q
            refine ru_iconst hX dX4_about_70 (fun _ => ?_)
            refine ru_istore (ls1 := [some (.inr (some (4, 0))), some (.inl a1), some (.inl a2), some (.inl 0), some (.inl 0)]) hX dX4_about_71 (Nat.le_of_ble_eq_true rfl) rfl (fun _ => ?_)
            exact h
          · refine ⟨94, 116, by rw [q]; rfl, by decide, ?_⟩
            replace h := h.2.2.2.1 q
            refine ru_aload_n hX dX4_about_116 rfl (fun _ => ?_)
            refine ru_get (v := .inr (some (522, 0))) hX dX4_about_117 rfl ⟨by decide, by decide⟩ rfl (fun _ => ?_)
            refine ru_iload_n hX dX4_about_120 rfl (fun _ => ?_)
            obtain ⟨k10, h⟩ := h
            refine ru_zaload hX dX4_about_121 (by decide) ⟨by decide, by decide⟩ rfl k10 (fun _ => ?_)
            refine ru_if_eq (tgt := 129) hX dX4_about_122 (by decide) (hok.2 _ _ _ (by decide) (by decide) (by decide) (by decide)) (fun q => ?_) (fun q => ?_)
            · have q11 := q
              replace h := h.1 q11
              refine ru_iconst hX dX4_about_129 (fun _ => ?_)
              exact ru_ireturn hX dX4_about_130 (Or.inl rfl) ⟨Nat.zero_le _, Nat.zero_le _⟩ (fun _ => h)
            · have q12 := q
              replace h := h.2 q12
              refine ru_iconst hX dX4_about_125 (fun _ => ?_)
              refine ru_goto (tgt := 130) hX dX4_about_126 (by decide) ?_
              exact ru_ireturn hX dX4_about_130 (Or.inl rfl) ⟨Nat.zero_le _, Nat.zero_le _⟩ (fun _ => h)
          · refine ⟨109, 131, by rw [q]; rfl, by decide, ?_⟩
            replace h := h.2.2.2.2 q
            refine ru_aload_n hX dX4_about_131 rfl (fun _ => ?_)
            refine ru_get (v := .inr (some (521, 0))) hX dX4_about_132 rfl ⟨by decide, by decide⟩ rfl (fun _ => ?_)
            refine ru_iload_n hX dX4_about_135 rfl (fun _ => ?_)
            obtain ⟨k13, h⟩ := h
            refine ru_zaload hX dX4_about_136 (by decide) ⟨by decide, by decide⟩ rfl k13 (fun _ => ?_)
            refine ru_if_eq (tgt := 144) hX dX4_about_137 (by decide) (hok.2 _ _ _ (by decide) (by decide) (by decide) (by decide)) (fun q => ?_) (fun q => ?_)
            · have q14 := q
              replace h := h.1 q14
              refine ru_iconst hX dX4_about_144 (fun _ => ?_)
              exact ru_ireturn hX dX4_about_145 (Or.inl rfl) ⟨Nat.zero_le _, Nat.zero_le _⟩ (fun _ => h)
            · have q15 := q
              replace h := h.2 q15
              refine ru_iconst hX dX4_about_140 (fun _ => ?_)
              refine ru_goto (tgt := 145) hX dX4_about_141 (by decide) ?_
              exact ru_ireturn hX dX4_about_145 (Or.inl rfl) ⟨Nat.zero_le _, Nat.zero_le _⟩ (fun _ => h)
      · have q16 := q
        replace h := h.2 q16
        refine ru_iconst hX dX4_about_17 (fun _ => ?_)
        exact ru_ireturn hX dX4_about_18 (Or.inl rfl) ⟨Nat.zero_le _, Nat.zero_le _⟩ (fun _ => h)
theorem bX4_about_73 {cs ss : Nat → Option (Nat × eh_T)} {lim : Nat × Nat} {Rt : Option eh_V → eh_S → Prop} {X : eh_X} (hX : eh_Ru eh_nX eh_fl4 eh_kn4 cs ss lim Rt 0 cX4_about X)  {σ : eh_S}  {a1 : Int} {o2 : Option eh_V} {a3 : Int} {a4 : Int}  (h : eh_ok σ → (0 ≤ a1 ∧ a1 < 8) ∧ (-2147483648 ≤ a4 ∧ a4 < 2147483648) ∧ ((σ.2 529 0 a1 ≤ a4 → Rt (some (.inl a3)) σ) ∧ (¬ σ.2 529 0 a1 ≤ a4 → (0 ≤ (201 * a1) + a4 ∧ (201 * a1) + a4 < 1608) ∧ ((σ.2 531 0 ((201 * a1) + a4) = 0 → X 73 [some (.inr (some (4, 0))), some (.inl a1), o2, some (.inl (a3 + 0)), some (.inl (a4 + 1))] [] σ (0, 0)) ∧ (¬ σ.2 531 0 ((201 * a1) + a4) = 0 → X 73 [some (.inr (some (4, 0))), some (.inl a1), o2, some (.inl (a3 + 1)), some (.inl (a4 + 1))] [] σ (0, 0)))))) : X 73 [some (.inr (some (4, 0))), some (.inl a1), o2, some (.inl a3), some (.inl a4)] [] σ (0, 0) := by
  refine ru_ok hX (fun hok => ?_)
  replace h := h hok
  refine ru_iload hX dX4_about_73 rfl (fun _ => ?_)
  refine ru_aload_n hX dX4_about_75 rfl (fun _ => ?_)
  refine ru_get (v := .inr (some (529, 0))) hX dX4_about_76 rfl ⟨by decide, by decide⟩ rfl (fun _ => ?_)
  refine ru_iload_n hX dX4_about_79 rfl (fun _ => ?_)
  obtain ⟨k1, h⟩ := h
  refine ru_iaload hX dX4_about_80 ⟨by decide, by decide⟩ rfl k1 (fun _ => ?_)
  obtain ⟨k2, h⟩ := h
  refine ru_icmp_ge (tgt := 114) hX dX4_about_81 (by decide) k2 (hok.2 _ _ _ (by decide) (by decide) (by decide) (by decide)) (fun q => ?_) (fun q => ?_)
  · have q3 := q
    replace h := h.1 q3
    refine ru_iload_n hX dX4_about_114 rfl (fun _ => ?_)
    exact ru_ireturn hX dX4_about_115 (Or.inl rfl) ⟨Nat.zero_le _, Nat.zero_le _⟩ (fun _ => h)
  · have q4 := q
    replace h := h.2 q4
    refine ru_iload_n hX dX4_about_84 rfl (fun _ => ?_)
    refine ru_aload_n hX dX4_about_85 rfl (fun _ => ?_)
    refine ru_get (v := .inr (some (531, 0))) hX dX4_about_86 rfl ⟨by decide, by decide⟩ rfl (fun _ => ?_)
    refine ru_sipush hX dX4_about_89 (by decide) (fun _ => ?_)
    refine ru_iload_n hX dX4_about_92 rfl (fun _ => ?_)
    refine ru_imul hX dX4_about_93 (fun _ => ?_)
    refine ru_iload hX dX4_about_94 rfl (fun _ => ?_)
    refine ru_iadd hX dX4_about_96 (fun _ => ?_)
    obtain ⟨k5, h⟩ := h
    refine ru_zaload hX dX4_about_97 (by decide) ⟨by decide, by decide⟩ rfl k5 (fun _ => ?_)
    refine ru_if_eq (tgt := 105) hX dX4_about_98 (by decide) (hok.2 _ _ _ (by decide) (by decide) (by decide) (by decide)) (fun q => ?_) (fun q => ?_)
    · have q6 := q
      replace h := h.1 q6
      refine ru_iconst hX dX4_about_105 (fun _ => ?_)
      refine ru_iadd hX dX4_about_106 (fun _ => ?_)
      refine ru_istore_n (ls1 := [some (.inr (some (4, 0))), some (.inl a1), o2, some (.inl (a3 + 0)), some (.inl a4)]) hX dX4_about_107 (Nat.le_of_ble_eq_true rfl) rfl (fun _ => ?_)
      refine ru_iinc (ls1 := [some (.inr (some (4, 0))), some (.inl a1), o2, some (.inl (a3 + 0)), some (.inl (a4 + 1))]) hX dX4_about_108 rfl rfl (fun _ => ?_)
      refine ru_goto (tgt := 73) hX dX4_about_111 (by decide) ?_
      exact h
    · have q7 := q
      replace h := h.2 q7
      refine ru_iconst hX dX4_about_101 (fun _ => ?_)
      refine ru_goto (tgt := 106) hX dX4_about_102 (by decide) ?_
      refine ru_iadd hX dX4_about_106 (fun _ => ?_)
      refine ru_istore_n (ls1 := [some (.inr (some (4, 0))), some (.inl a1), o2, some (.inl (a3 + 1)), some (.inl a4)]) hX dX4_about_107 (Nat.le_of_ble_eq_true rfl) rfl (fun _ => ?_)
      refine ru_iinc (ls1 := [some (.inr (some (4, 0))), some (.inl a1), o2, some (.inl (a3 + 1)), some (.inl (a4 + 1))]) hX dX4_about_108 rfl rfl (fun _ => ?_)
      refine ru_goto (tgt := 73) hX dX4_about_111 (by decide) ?_
      exact h
theorem bX4_about_150 {cs ss : Nat → Option (Nat × eh_T)} {lim : Nat × Nat} {Rt : Option eh_V → eh_S → Prop} {X : eh_X} (hX : eh_Ru eh_nX eh_fl4 eh_kn4 cs ss lim Rt 0 cX4_about X) {T233 : eh_T} (hc233 : cs 233 = some (2, T233)) {σ : eh_S}  {a1 : Int} {o2 : Option eh_V} {o3 : Option eh_V} {o4 : Option eh_V}  (h : eh_ok σ → T233 [.inr (some (4, 0)), .inl a1] σ (0, 0) (fun r σ1 => X 155 [some (.inr (some (4, 0))), some (.inl a1), o2, o3, o4] (r.toList ++ []) σ1 (0, 0))) : X 150 [some (.inr (some (4, 0))), some (.inl a1), o2, o3, o4] [] σ (0, 0) := by
  refine ru_ok hX (fun hok => ?_)
  replace h := h hok
  refine ru_aload_n hX dX4_about_150 rfl (fun _ => ?_)
  refine ru_iload_n hX dX4_about_151 rfl (fun _ => ?_)
  exact ru_callV (as := [.inr (some (4, 0)), .inl a1]) (rest := []) hX dX4_about_152 hc233 rfl (Nat.le_of_ble_eq_true rfl) (0, 0) ⟨Nat.zero_le _, Nat.zero_le _⟩ h
theorem bX4_about_155 {cs ss : Nat → Option (Nat × eh_T)} {lim : Nat × Nat} {Rt : Option eh_V → eh_S → Prop} {X : eh_X} (hX : eh_Ru eh_nX eh_fl4 eh_kn4 cs ss lim Rt 0 cX4_about X) {T236 : eh_T} (hc236 : cs 236 = some (1, T236)) {σ : eh_S}  {o1 : Option eh_V} {o2 : Option eh_V} {o3 : Option eh_V} {o4 : Option eh_V}  (h : eh_ok σ → T236 [.inr (some (4, 0))] σ (0, 0) (fun r σ1 => X 159 [some (.inr (some (4, 0))), o1, o2, o3, o4] (r.toList ++ []) σ1 (0, 0))) : X 155 [some (.inr (some (4, 0))), o1, o2, o3, o4] [] σ (0, 0) := by
  refine ru_ok hX (fun hok => ?_)
  replace h := h hok
  refine ru_aload_n hX dX4_about_155 rfl (fun _ => ?_)
  exact ru_callV (as := [.inr (some (4, 0))]) (rest := []) hX dX4_about_156 hc236 rfl (Nat.le_of_ble_eq_true rfl) (0, 0) ⟨Nat.zero_le _, Nat.zero_le _⟩ h
theorem bX4_about_159 {cs ss : Nat → Option (Nat × eh_T)} {lim : Nat × Nat} {Rt : Option eh_V → eh_S → Prop} {X : eh_X} (hX : eh_Ru eh_nX eh_fl4 eh_kn4 cs ss lim Rt 0 cX4_about X)  {σ : eh_S}  {o0 : Option eh_V} {o1 : Option eh_V} {o2 : Option eh_V} {o3 : Option eh_V} {o4 : Option eh_V} {s0 : Int}  (h : eh_ok σ → Rt (some (.inl s0)) σ) : X 159 [o0, o1, o2, o3, o4] [.inl s0] σ (0, 0) := by
  refine ru_ok hX (fun hok => ?_)
  replace h := h hok
  exact ru_ireturn hX dX4_about_159 (Or.inl rfl) ⟨Nat.zero_le _, Nat.zero_le _⟩ (fun _ => h)
theorem bX4_holdNone_0 {cs ss : Nat → Option (Nat × eh_T)} {lim : Nat × Nat} {Rt : Option eh_V → eh_S → Prop} {X : eh_X} (hX : eh_Ru eh_nX eh_fl4 eh_kn4 cs ss lim Rt 2 cX4_holdNone X)  {σ : eh_S}  {o1 : Option eh_V}  (h : eh_ok σ → X 2 [some (.inr (some (4, 0))), some (.inl 0)] [] σ (0, 0)) : X 0 [some (.inr (some (4, 0))), o1] [] σ (0, 0) := by
  refine ru_ok hX (fun hok => ?_)
  replace h := h hok
  refine ru_iconst hX dX4_holdNone_0 (fun _ => ?_)
  refine ru_istore_n (ls1 := [some (.inr (some (4, 0))), some (.inl 0)]) hX dX4_holdNone_1 (Nat.le_of_ble_eq_true rfl) rfl (fun _ => ?_)
  exact h
theorem bX4_holdNone_2 {cs ss : Nat → Option (Nat × eh_T)} {lim : Nat × Nat} {Rt : Option eh_V → eh_S → Prop} {X : eh_X} (hX : eh_Ru eh_nX eh_fl4 eh_kn4 cs ss lim Rt 2 cX4_holdNone X)  {σ : eh_S}  {a1 : Int}  (h : eh_ok σ → (-2147483648 ≤ a1 ∧ a1 < 2147483648) ∧ ((1000 ≤ a1 → Rt none σ) ∧ (¬ 1000 ≤ a1 → (0 ≤ a1 ∧ a1 < 1000) ∧ X 2 [some (.inr (some (4, 0))), some (.inl (a1 + 1))] [] (eh_sA σ 545 0 a1 0) (0, 0)))) : X 2 [some (.inr (some (4, 0))), some (.inl a1)] [] σ (0, 0) := by
  refine ru_ok hX (fun hok => ?_)
  replace h := h hok
  refine ru_iload_n hX dX4_holdNone_2 rfl (fun _ => ?_)
  refine ru_sipush hX dX4_holdNone_3 (by decide) (fun _ => ?_)
  obtain ⟨k1, h⟩ := h
  refine ru_icmp_ge (tgt := 22) hX dX4_holdNone_6 (by decide) k1 (by unfold eh_r; decide) (fun q => ?_) (fun q => ?_)
  · have q2 := q
    replace h := h.1 q2
    exact ru_return hX dX4_holdNone_22 rfl ⟨Nat.zero_le _, Nat.zero_le _⟩ (fun _ => h)
  · have q3 := q
    replace h := h.2 q3
    refine ru_aload_n hX dX4_holdNone_9 rfl (fun _ => ?_)
    refine ru_get (v := .inr (some (545, 0))) hX dX4_holdNone_10 rfl ⟨by decide, by decide⟩ rfl (fun _ => ?_)
    refine ru_iload_n hX dX4_holdNone_13 rfl (fun _ => ?_)
    refine ru_iconst hX dX4_holdNone_14 (fun _ => ?_)
    obtain ⟨k4, h⟩ := h
    refine ru_zastore hX dX4_holdNone_15 (by decide) ⟨by decide, by decide⟩ rfl k4 (by decide) (fun _ => ?_)
    refine ru_iinc (ls1 := [some (.inr (some (4, 0))), some (.inl (a1 + 1))]) hX dX4_holdNone_16 rfl rfl (fun hok5 => ?_)
    refine ru_goto (tgt := 2) hX dX4_holdNone_19 (by decide) ?_
    exact h
theorem bX4_hold_0 {cs ss : Nat → Option (Nat × eh_T)} {lim : Nat × Nat} {Rt : Option eh_V → eh_S → Prop} {X : eh_X} (hX : eh_Ru eh_nX eh_fl4 eh_kn4 cs ss lim Rt 2 cX4_hold X)  {σ : eh_S}  {a1 : Int} {o2 : Option eh_V} {o3 : Option eh_V}  (h : eh_ok σ → X 2 [some (.inr (some (4, 0))), some (.inl a1), some (.inl 0), o3] [] σ (0, 0)) : X 0 [some (.inr (some (4, 0))), some (.inl a1), o2, o3] [] σ (0, 0) := by
  refine ru_ok hX (fun hok => ?_)
  replace h := h hok
  refine ru_iconst hX dX4_hold_0 (fun _ => ?_)
  refine ru_istore_n (ls1 := [some (.inr (some (4, 0))), some (.inl a1), some (.inl 0), o3]) hX dX4_hold_1 (Nat.le_of_ble_eq_true rfl) rfl (fun _ => ?_)
  exact h
theorem bX4_hold_2 {cs ss : Nat → Option (Nat × eh_T)} {lim : Nat × Nat} {Rt : Option eh_V → eh_S → Prop} {X : eh_X} (hX : eh_Ru eh_nX eh_fl4 eh_kn4 cs ss lim Rt 2 cX4_hold X)  {σ : eh_S}  {a1 : Int} {a2 : Int} {o3 : Option eh_V}  (h : eh_ok σ → (0 ≤ a1 ∧ a1 < 8) ∧ (-2147483648 ≤ a2 ∧ a2 < 2147483648) ∧ ((σ.2 529 0 a1 ≤ a2 → Rt none σ) ∧ (¬ σ.2 529 0 a1 ≤ a2 → X 14 [some (.inr (some (4, 0))), some (.inl a1), some (.inl a2), some (.inl 0)] [] σ (0, 0)))) : X 2 [some (.inr (some (4, 0))), some (.inl a1), some (.inl a2), o3] [] σ (0, 0) := by
  refine ru_ok hX (fun hok => ?_)
  replace h := h hok
  refine ru_iload_n hX dX4_hold_2 rfl (fun _ => ?_)
  refine ru_aload_n hX dX4_hold_3 rfl (fun _ => ?_)
  refine ru_get (v := .inr (some (529, 0))) hX dX4_hold_4 rfl ⟨by decide, by decide⟩ rfl (fun _ => ?_)
  refine ru_iload_n hX dX4_hold_7 rfl (fun _ => ?_)
  obtain ⟨k1, h⟩ := h
  refine ru_iaload hX dX4_hold_8 ⟨by decide, by decide⟩ rfl k1 (fun _ => ?_)
  obtain ⟨k2, h⟩ := h
  refine ru_icmp_ge (tgt := 65) hX dX4_hold_9 (by decide) k2 (hok.2 _ _ _ (by decide) (by decide) (by decide) (by decide)) (fun q => ?_) (fun q => ?_)
  · have q3 := q
    replace h := h.1 q3
    exact ru_return hX dX4_hold_65 rfl ⟨Nat.zero_le _, Nat.zero_le _⟩ (fun _ => h)
  · have q4 := q
    replace h := h.2 q4
    refine ru_iconst hX dX4_hold_12 (fun _ => ?_)
    refine ru_istore_n (ls1 := [some (.inr (some (4, 0))), some (.inl a1), some (.inl a2), some (.inl 0)]) hX dX4_hold_13 (Nat.le_of_ble_eq_true rfl) rfl (fun _ => ?_)
    exact h
theorem bX4_hold_14 {cs ss : Nat → Option (Nat × eh_T)} {lim : Nat × Nat} {Rt : Option eh_V → eh_S → Prop} {X : eh_X} (hX : eh_Ru eh_nX eh_fl4 eh_kn4 cs ss lim Rt 2 cX4_hold X)  {σ : eh_S}  {a1 : Int} {a2 : Int} {a3 : Int}  (h : eh_ok σ → (0 ≤ (201 * a1) + a2 ∧ (201 * a1) + a2 < 1608) ∧ (-2147483648 ≤ a3 ∧ a3 < 2147483648) ∧ ((σ.2 530 0 ((201 * a1) + a2) ≤ a3 → X 2 [some (.inr (some (4, 0))), some (.inl a1), some (.inl (a2 + 1)), some (.inl a3)] [] σ (0, 0)) ∧ (¬ σ.2 530 0 ((201 * a1) + a2) ≤ a3 → (0 ≤ (24 * ((201 * a1) + a2)) + a3 ∧ (24 * ((201 * a1) + a2)) + a3 < 38592) ∧ (0 ≤ σ.2 532 0 ((24 * ((201 * a1) + a2)) + a3) ∧ σ.2 532 0 ((24 * ((201 * a1) + a2)) + a3) < 1000) ∧ X 14 [some (.inr (some (4, 0))), some (.inl a1), some (.inl a2), some (.inl (a3 + 1))] [] (eh_sA σ 545 0 (σ.2 532 0 ((24 * ((201 * a1) + a2)) + a3)) 1) (0, 0)))) : X 14 [some (.inr (some (4, 0))), some (.inl a1), some (.inl a2), some (.inl a3)] [] σ (0, 0) := by
  refine ru_ok hX (fun hok => ?_)
  replace h := h hok
  refine ru_iload_n hX dX4_hold_14 rfl (fun _ => ?_)
  refine ru_aload_n hX dX4_hold_15 rfl (fun _ => ?_)
  refine ru_get (v := .inr (some (530, 0))) hX dX4_hold_16 rfl ⟨by decide, by decide⟩ rfl (fun _ => ?_)
  refine ru_sipush hX dX4_hold_19 (by decide) (fun _ => ?_)
  refine ru_iload_n hX dX4_hold_22 rfl (fun _ => ?_)
  refine ru_imul hX dX4_hold_23 (fun _ => ?_)
  refine ru_iload_n hX dX4_hold_24 rfl (fun _ => ?_)
  refine ru_iadd hX dX4_hold_25 (fun _ => ?_)
  obtain ⟨k1, h⟩ := h
  refine ru_iaload hX dX4_hold_26 ⟨by decide, by decide⟩ rfl k1 (fun _ => ?_)
  obtain ⟨k2, h⟩ := h
  refine ru_icmp_ge (tgt := 59) hX dX4_hold_27 (by decide) k2 (hok.2 _ _ _ (by decide) (by decide) (by decide) (by decide)) (fun q => ?_) (fun q => ?_)
  · have q3 := q
    replace h := h.1 q3
    refine ru_iinc (ls1 := [some (.inr (some (4, 0))), some (.inl a1), some (.inl (a2 + 1)), some (.inl a3)]) hX dX4_hold_59 rfl rfl (fun _ => ?_)
    refine ru_goto (tgt := 2) hX dX4_hold_62 (by decide) ?_
    exact h
  · have q4 := q
    replace h := h.2 q4
    refine ru_aload_n hX dX4_hold_30 rfl (fun _ => ?_)
    refine ru_get (v := .inr (some (545, 0))) hX dX4_hold_31 rfl ⟨by decide, by decide⟩ rfl (fun _ => ?_)
    refine ru_aload_n hX dX4_hold_34 rfl (fun _ => ?_)
    refine ru_get (v := .inr (some (532, 0))) hX dX4_hold_35 rfl ⟨by decide, by decide⟩ rfl (fun _ => ?_)
    refine ru_bipush hX dX4_hold_38 (by decide) (fun _ => ?_)
    refine ru_sipush hX dX4_hold_40 (by decide) (fun _ => ?_)
    refine ru_iload_n hX dX4_hold_43 rfl (fun _ => ?_)
    refine ru_imul hX dX4_hold_44 (fun _ => ?_)
    refine ru_iload_n hX dX4_hold_45 rfl (fun _ => ?_)
    refine ru_iadd hX dX4_hold_46 (fun _ => ?_)
    refine ru_imul hX dX4_hold_47 (fun _ => ?_)
    refine ru_iload_n hX dX4_hold_48 rfl (fun _ => ?_)
    refine ru_iadd hX dX4_hold_49 (fun _ => ?_)
    obtain ⟨k5, h⟩ := h
    refine ru_iaload hX dX4_hold_50 ⟨by decide, by decide⟩ rfl k5 (fun _ => ?_)
    refine ru_iconst hX dX4_hold_51 (fun _ => ?_)
    obtain ⟨k6, h⟩ := h
    refine ru_zastore hX dX4_hold_52 (by decide) ⟨by decide, by decide⟩ rfl k6 (by decide) (fun _ => ?_)
    refine ru_iinc (ls1 := [some (.inr (some (4, 0))), some (.inl a1), some (.inl a2), some (.inl (a3 + 1))]) hX dX4_hold_53 rfl rfl (fun hok7 => ?_)
    refine ru_goto (tgt := 14) hX dX4_hold_56 (by decide) ?_
    exact h
theorem bX4_heldMany_0 {cs ss : Nat → Option (Nat × eh_T)} {lim : Nat × Nat} {Rt : Option eh_V → eh_S → Prop} {X : eh_X} (hX : eh_Ru eh_nX eh_fl4 eh_kn4 cs ss lim Rt 0 cX4_heldMany X)  {σ : eh_S}  {o1 : Option eh_V} {o2 : Option eh_V}  (h : eh_ok σ → X 4 [some (.inr (some (4, 0))), some (.inl 0), some (.inl 0)] [] σ (0, 0)) : X 0 [some (.inr (some (4, 0))), o1, o2] [] σ (0, 0) := by
  refine ru_ok hX (fun hok => ?_)
  replace h := h hok
  refine ru_iconst hX dX4_heldMany_0 (fun _ => ?_)
  refine ru_istore_n (ls1 := [some (.inr (some (4, 0))), some (.inl 0), o2]) hX dX4_heldMany_1 (Nat.le_of_ble_eq_true rfl) rfl (fun _ => ?_)
  refine ru_iconst hX dX4_heldMany_2 (fun _ => ?_)
  refine ru_istore_n (ls1 := [some (.inr (some (4, 0))), some (.inl 0), some (.inl 0)]) hX dX4_heldMany_3 (Nat.le_of_ble_eq_true rfl) rfl (fun _ => ?_)
  exact h
theorem bX4_heldMany_4 {cs ss : Nat → Option (Nat × eh_T)} {lim : Nat × Nat} {Rt : Option eh_V → eh_S → Prop} {X : eh_X} (hX : eh_Ru eh_nX eh_fl4 eh_kn4 cs ss lim Rt 0 cX4_heldMany X)  {σ : eh_S}  {a1 : Int} {a2 : Int}  (h : eh_ok σ → (-2147483648 ≤ a2 ∧ a2 < 2147483648) ∧ ((σ.1 508 0 ≤ a2 → Rt (some (.inl a1)) σ) ∧ (¬ σ.1 508 0 ≤ a2 → (0 ≤ a2 ∧ a2 < 1000) ∧ ((σ.2 545 0 a2 = 0 → X 4 [some (.inr (some (4, 0))), some (.inl (a1 + 0)), some (.inl (a2 + 1))] [] σ (0, 0)) ∧ (¬ σ.2 545 0 a2 = 0 → X 4 [some (.inr (some (4, 0))), some (.inl (a1 + 1)), some (.inl (a2 + 1))] [] σ (0, 0)))))) : X 4 [some (.inr (some (4, 0))), some (.inl a1), some (.inl a2)] [] σ (0, 0) := by
  refine ru_ok hX (fun hok => ?_)
  replace h := h hok
  refine ru_iload_n hX dX4_heldMany_4 rfl (fun _ => ?_)
  refine ru_aload_n hX dX4_heldMany_5 rfl (fun _ => ?_)
  refine ru_get (v := .inl (σ.1 508 0)) hX dX4_heldMany_6 rfl ⟨by decide, by decide⟩ rfl (fun _ => ?_)
  obtain ⟨k1, h⟩ := h
  refine ru_icmp_ge (tgt := 35) hX dX4_heldMany_9 (by decide) k1 (hok.1 _ _) (fun q => ?_) (fun q => ?_)
  · have q2 := q
    replace h := h.1 q2
    refine ru_iload_n hX dX4_heldMany_35 rfl (fun _ => ?_)
    exact ru_ireturn hX dX4_heldMany_36 (Or.inl rfl) ⟨Nat.zero_le _, Nat.zero_le _⟩ (fun _ => h)
  · have q3 := q
    replace h := h.2 q3
    refine ru_iload_n hX dX4_heldMany_12 rfl (fun _ => ?_)
    refine ru_aload_n hX dX4_heldMany_13 rfl (fun _ => ?_)
    refine ru_get (v := .inr (some (545, 0))) hX dX4_heldMany_14 rfl ⟨by decide, by decide⟩ rfl (fun _ => ?_)
    refine ru_iload_n hX dX4_heldMany_17 rfl (fun _ => ?_)
    obtain ⟨k4, h⟩ := h
    refine ru_zaload hX dX4_heldMany_18 (by decide) ⟨by decide, by decide⟩ rfl k4 (fun _ => ?_)
    refine ru_if_eq (tgt := 26) hX dX4_heldMany_19 (by decide) (hok.2 _ _ _ (by decide) (by decide) (by decide) (by decide)) (fun q => ?_) (fun q => ?_)
    · have q5 := q
      replace h := h.1 q5
      refine ru_iconst hX dX4_heldMany_26 (fun _ => ?_)
      refine ru_iadd hX dX4_heldMany_27 (fun _ => ?_)
      refine ru_istore_n (ls1 := [some (.inr (some (4, 0))), some (.inl (a1 + 0)), some (.inl a2)]) hX dX4_heldMany_28 (Nat.le_of_ble_eq_true rfl) rfl (fun _ => ?_)
      refine ru_iinc (ls1 := [some (.inr (some (4, 0))), some (.inl (a1 + 0)), some (.inl (a2 + 1))]) hX dX4_heldMany_29 rfl rfl (fun _ => ?_)
      refine ru_goto (tgt := 4) hX dX4_heldMany_32 (by decide) ?_
      exact h
    · have q6 := q
      replace h := h.2 q6
      refine ru_iconst hX dX4_heldMany_22 (fun _ => ?_)
      refine ru_goto (tgt := 27) hX dX4_heldMany_23 (by decide) ?_
      refine ru_iadd hX dX4_heldMany_27 (fun _ => ?_)
      refine ru_istore_n (ls1 := [some (.inr (some (4, 0))), some (.inl (a1 + 1)), some (.inl a2)]) hX dX4_heldMany_28 (Nat.le_of_ble_eq_true rfl) rfl (fun _ => ?_)
      refine ru_iinc (ls1 := [some (.inr (some (4, 0))), some (.inl (a1 + 1)), some (.inl (a2 + 1))]) hX dX4_heldMany_29 rfl rfl (fun _ => ?_)
      refine ru_goto (tgt := 4) hX dX4_heldMany_32 (by decide) ?_
      exact h
theorem bX4_run_0 {cs ss : Nat → Option (Nat × eh_T)} {lim : Nat × Nat} {Rt : Option eh_V → eh_S → Prop} {X : eh_X} (hX : eh_Ru eh_nX eh_fl4 eh_kn4 cs ss lim Rt 0 cX4_run X) {T143 : eh_T} (hc143 : cs 143 = some (2, T143)) {σ : eh_S}  {a1 : Int} {a2 : Int} {a3 : Int} {a4 : Int} {o5 : Option eh_V}  (h : eh_ok σ → T143 [.inr (some (4, 0)), .inl a1] σ (0, 0) (fun r σ1 => X 5 [some (.inr (some (4, 0))), some (.inl a1), some (.inl a2), some (.inl a3), some (.inl a4), o5] (r.toList ++ []) σ1 (0, 0))) : X 0 [some (.inr (some (4, 0))), some (.inl a1), some (.inl a2), some (.inl a3), some (.inl a4), o5] [] σ (0, 0) := by
  refine ru_ok hX (fun hok => ?_)
  replace h := h hok
  refine ru_aload_n hX dX4_run_0 rfl (fun _ => ?_)
  refine ru_iload_n hX dX4_run_1 rfl (fun _ => ?_)
  exact ru_callV (as := [.inr (some (4, 0)), .inl a1]) (rest := []) hX dX4_run_2 hc143 rfl (Nat.le_of_ble_eq_true rfl) (0, 0) ⟨Nat.zero_le _, Nat.zero_le _⟩ h
theorem bX4_run_5 {cs ss : Nat → Option (Nat × eh_T)} {lim : Nat × Nat} {Rt : Option eh_V → eh_S → Prop} {X : eh_X} (hX : eh_Ru eh_nX eh_fl4 eh_kn4 cs ss lim Rt 0 cX4_run X)  {σ : eh_S}  {a1 : Int} {a2 : Int} {a3 : Int} {a4 : Int} {o5 : Option eh_V} {s0 : Int}  (h : eh_ok σ → (-2147483648 ≤ s0 ∧ s0 < 2147483648) ∧ ((s0 = 0 → Rt (some (.inl (-1))) σ) ∧ (¬ s0 = 0 → (-2147483648 ≤ a2 ∧ a2 < 2147483648) ∧ ((a2 < 0 → Rt (some (.inl (-1))) σ) ∧ (¬ a2 < 0 → (0 ≤ a1 ∧ a1 < 8) ∧ ((σ.2 529 0 a1 ≤ a2 → Rt (some (.inl (-1))) σ) ∧ (¬ σ.2 529 0 a1 ≤ a2 → (-2147483648 ≤ a3 ∧ a3 < 2147483648) ∧ ((a3 < 0 → Rt (some (.inl (-1))) σ) ∧ (¬ a3 < 0 → (0 ≤ (201 * a1) + a2 ∧ (201 * a1) + a2 < 1608) ∧ ((σ.2 530 0 ((201 * a1) + a2) ≤ a3 → Rt (some (.inl (-1))) σ) ∧ (¬ σ.2 530 0 ((201 * a1) + a2) ≤ a3 → (-2147483648 ≤ a4 ∧ a4 < 2147483648) ∧ ((a4 < 0 → Rt (some (.inl (-1))) σ) ∧ (¬ a4 < 0 → ((a4 ≤ 1 → ((a4 = 0 → (0 ≤ (24 * ((201 * a1) + a2)) + a3 ∧ (24 * ((201 * a1) + a2)) + a3 < 38592) ∧ Rt (some (.inl (σ.2 532 0 ((24 * ((201 * a1) + a2)) + a3)))) σ) ∧ (¬ a4 = 0 → (0 ≤ (24 * ((201 * a1) + a2)) + a3 ∧ (24 * ((201 * a1) + a2)) + a3 < 38592) ∧ Rt (some (.inl (σ.2 533 0 ((24 * ((201 * a1) + a2)) + a3)))) σ))) ∧ (¬ a4 ≤ 1 → Rt (some (.inl (-1))) σ))))))))))))))) : X 5 [some (.inr (some (4, 0))), some (.inl a1), some (.inl a2), some (.inl a3), some (.inl a4), o5] [.inl s0] σ (0, 0) := by
  refine ru_ok hX (fun hok => ?_)
  replace h := h hok
  obtain ⟨k1, h⟩ := h
  refine ru_if_eq (tgt := 53) hX dX4_run_5 (by decide) k1 (fun q => ?_) (fun q => ?_)
  · have q2 := q
    replace h := h.1 q2
    refine ru_iconst hX dX4_run_53 (fun _ => ?_)
    exact ru_ireturn hX dX4_run_54 (Or.inl rfl) ⟨Nat.zero_le _, Nat.zero_le _⟩ (fun _ => h)
  · have q3 := q
    replace h := h.2 q3
    refine ru_iload_n hX dX4_run_8 rfl (fun _ => ?_)
    obtain ⟨k4, h⟩ := h
    refine ru_if_lt (tgt := 53) hX dX4_run_9 (by decide) k4 (fun q => ?_) (fun q => ?_)
    · have q5 := q
      replace h := h.1 q5
      refine ru_iconst hX dX4_run_53 (fun _ => ?_)
      exact ru_ireturn hX dX4_run_54 (Or.inl rfl) ⟨Nat.zero_le _, Nat.zero_le _⟩ (fun _ => h)
    · have q6 := q
      replace h := h.2 q6
      refine ru_iload_n hX dX4_run_12 rfl (fun _ => ?_)
      refine ru_aload_n hX dX4_run_13 rfl (fun _ => ?_)
      refine ru_get (v := .inr (some (529, 0))) hX dX4_run_14 rfl ⟨by decide, by decide⟩ rfl (fun _ => ?_)
      refine ru_iload_n hX dX4_run_17 rfl (fun _ => ?_)
      obtain ⟨k7, h⟩ := h
      refine ru_iaload hX dX4_run_18 ⟨by decide, by decide⟩ rfl k7 (fun _ => ?_)
      refine ru_icmp_ge (tgt := 53) hX dX4_run_19 (by decide) k4 (hok.2 _ _ _ (by decide) (by decide) (by decide) (by decide)) (fun q => ?_) (fun q => ?_)
      · have q8 := q
        replace h := h.1 q8
        refine ru_iconst hX dX4_run_53 (fun _ => ?_)
        exact ru_ireturn hX dX4_run_54 (Or.inl rfl) ⟨Nat.zero_le _, Nat.zero_le _⟩ (fun _ => h)
      · have q9 := q
        replace h := h.2 q9
        refine ru_iload_n hX dX4_run_22 rfl (fun _ => ?_)
        obtain ⟨k10, h⟩ := h
        refine ru_if_lt (tgt := 53) hX dX4_run_23 (by decide) k10 (fun q => ?_) (fun q => ?_)
        · have q11 := q
          replace h := h.1 q11
          refine ru_iconst hX dX4_run_53 (fun _ => ?_)
          exact ru_ireturn hX dX4_run_54 (Or.inl rfl) ⟨Nat.zero_le _, Nat.zero_le _⟩ (fun _ => h)
        · have q12 := q
          replace h := h.2 q12
          refine ru_iload_n hX dX4_run_26 rfl (fun _ => ?_)
          refine ru_aload_n hX dX4_run_27 rfl (fun _ => ?_)
          refine ru_get (v := .inr (some (530, 0))) hX dX4_run_28 rfl ⟨by decide, by decide⟩ rfl (fun _ => ?_)
          refine ru_sipush hX dX4_run_31 (by decide) (fun _ => ?_)
          refine ru_iload_n hX dX4_run_34 rfl (fun _ => ?_)
          refine ru_imul hX dX4_run_35 (fun _ => ?_)
          refine ru_iload_n hX dX4_run_36 rfl (fun _ => ?_)
          refine ru_iadd hX dX4_run_37 (fun _ => ?_)
          obtain ⟨k13, h⟩ := h
          refine ru_iaload hX dX4_run_38 ⟨by decide, by decide⟩ rfl k13 (fun _ => ?_)
          refine ru_icmp_ge (tgt := 53) hX dX4_run_39 (by decide) k10 (hok.2 _ _ _ (by decide) (by decide) (by decide) (by decide)) (fun q => ?_) (fun q => ?_)
          · have q14 := q
            replace h := h.1 q14
            refine ru_iconst hX dX4_run_53 (fun _ => ?_)
            exact ru_ireturn hX dX4_run_54 (Or.inl rfl) ⟨Nat.zero_le _, Nat.zero_le _⟩ (fun _ => h)
          · have q15 := q
            replace h := h.2 q15
            refine ru_iload hX dX4_run_42 rfl (fun _ => ?_)
            obtain ⟨k16, h⟩ := h
            refine ru_if_lt (tgt := 53) hX dX4_run_44 (by decide) k16 (fun q => ?_) (fun q => ?_)
            · have q17 := q
              replace h := h.1 q17
              refine ru_iconst hX dX4_run_53 (fun _ => ?_)
              exact ru_ireturn hX dX4_run_54 (Or.inl rfl) ⟨Nat.zero_le _, Nat.zero_le _⟩ (fun _ => h)
            · have q18 := q
              replace h := h.2 q18
              refine ru_iload hX dX4_run_47 rfl (fun _ => ?_)
              refine ru_iconst hX dX4_run_49 (fun _ => ?_)
              refine ru_icmp_le (tgt := 55) hX dX4_run_50 (by decide) k16 (by unfold eh_r; decide) (fun q => ?_) (fun q => ?_)
              · have q19 := q
                replace h := h.1 q19
                refine ru_bipush hX dX4_run_55 (by decide) (fun _ => ?_)
                refine ru_sipush hX dX4_run_57 (by decide) (fun _ => ?_)
                refine ru_iload_n hX dX4_run_60 rfl (fun _ => ?_)
                refine ru_imul hX dX4_run_61 (fun _ => ?_)
                refine ru_iload_n hX dX4_run_62 rfl (fun _ => ?_)
                refine ru_iadd hX dX4_run_63 (fun _ => ?_)
                refine ru_imul hX dX4_run_64 (fun _ => ?_)
                refine ru_iload_n hX dX4_run_65 rfl (fun _ => ?_)
                refine ru_iadd hX dX4_run_66 (fun _ => ?_)
                refine ru_istore (ls1 := [some (.inr (some (4, 0))), some (.inl a1), some (.inl a2), some (.inl a3), some (.inl a4), some (.inl ((24 * ((201 * a1) + a2)) + a3))]) hX dX4_run_67 (Nat.le_of_ble_eq_true rfl) rfl (fun _ => ?_)
                refine ru_iload hX dX4_run_69 rfl (fun _ => ?_)
                refine ru_if_ne (tgt := 84) hX dX4_run_71 (by decide) k16 (fun q => ?_) (fun q => ?_)
                · have q20 := q
                  replace h := h.2 q20
                  refine ru_aload_n hX dX4_run_84 rfl (fun _ => ?_)
                  refine ru_get (v := .inr (some (533, 0))) hX dX4_run_85 rfl ⟨by decide, by decide⟩ rfl (fun _ => ?_)
                  refine ru_iload hX dX4_run_88 rfl (fun _ => ?_)
                  obtain ⟨k21, h⟩ := h
                  refine ru_iaload hX dX4_run_90 ⟨by decide, by decide⟩ rfl k21 (fun _ => ?_)
                  exact ru_ireturn hX dX4_run_91 (Or.inl rfl) ⟨Nat.zero_le _, Nat.zero_le _⟩ (fun _ => h)
                · have q22 := q
                  replace h := h.1 q22
                  refine ru_aload_n hX dX4_run_74 rfl (fun _ => ?_)
                  refine ru_get (v := .inr (some (532, 0))) hX dX4_run_75 rfl ⟨by decide, by decide⟩ rfl (fun _ => ?_)
                  refine ru_iload hX dX4_run_78 rfl (fun _ => ?_)
                  obtain ⟨k23, h⟩ := h
                  refine ru_iaload hX dX4_run_80 ⟨by decide, by decide⟩ rfl k23 (fun _ => ?_)
                  refine ru_goto (tgt := 91) hX dX4_run_81 (by decide) ?_
                  exact ru_ireturn hX dX4_run_91 (Or.inl rfl) ⟨Nat.zero_le _, Nat.zero_le _⟩ (fun _ => h)
              · have q24 := q
                replace h := h.2 q24
                refine ru_iconst hX dX4_run_53 (fun _ => ?_)
                exact ru_ireturn hX dX4_run_54 (Or.inl rfl) ⟨Nat.zero_le _, Nat.zero_le _⟩ (fun _ => h)
theorem bX4_almost_0 {cs ss : Nat → Option (Nat × eh_T)} {lim : Nat × Nat} {Rt : Option eh_V → eh_S → Prop} {X : eh_X} (hX : eh_Ru eh_nX eh_fl4 eh_kn4 cs ss lim Rt 0 cX4_almost X) {T143 : eh_T} (hc143 : cs 143 = some (2, T143)) {σ : eh_S}  {a1 : Int} {a2 : Int} {o3 : Option eh_V} {o4 : Option eh_V} {o5 : Option eh_V} {o6 : Option eh_V} {o7 : Option eh_V}  (h : eh_ok σ → T143 [.inr (some (4, 0)), .inl a1] σ (0, 0) (fun r σ1 => X 5 [some (.inr (some (4, 0))), some (.inl a1), some (.inl a2), o3, o4, o5, o6, o7] (r.toList ++ []) σ1 (0, 0))) : X 0 [some (.inr (some (4, 0))), some (.inl a1), some (.inl a2), o3, o4, o5, o6, o7] [] σ (0, 0) := by
  refine ru_ok hX (fun hok => ?_)
  replace h := h hok
  refine ru_aload_n hX dX4_almost_0 rfl (fun _ => ?_)
  refine ru_iload_n hX dX4_almost_1 rfl (fun _ => ?_)
  exact ru_callV (as := [.inr (some (4, 0)), .inl a1]) (rest := []) hX dX4_almost_2 hc143 rfl (Nat.le_of_ble_eq_true rfl) (0, 0) ⟨Nat.zero_le _, Nat.zero_le _⟩ h
theorem bX4_almost_5 {cs ss : Nat → Option (Nat × eh_T)} {lim : Nat × Nat} {Rt : Option eh_V → eh_S → Prop} {X : eh_X} (hX : eh_Ru eh_nX eh_fl4 eh_kn4 cs ss lim Rt 0 cX4_almost X)  {σ : eh_S}  {a1 : Int} {a2 : Int} {o3 : Option eh_V} {o4 : Option eh_V} {o5 : Option eh_V} {o6 : Option eh_V} {o7 : Option eh_V} {s0 : Int}  (h : eh_ok σ → (-2147483648 ≤ s0 ∧ s0 < 2147483648) ∧ ((s0 = 0 → Rt (some (.inl (-1))) σ) ∧ (¬ s0 = 0 → (-2147483648 ≤ a2 ∧ a2 < 2147483648) ∧ ((a2 < 0 → Rt (some (.inl (-1))) σ) ∧ (¬ a2 < 0 → ((a2 ≤ 5 → X 24 [some (.inr (some (4, 0))), some (.inl a1), some (.inl a2), some (.inl 0), some (.inl 0), o5, o6, o7] [] σ (0, 0)) ∧ (¬ a2 ≤ 5 → Rt (some (.inl (-1))) σ))))))) : X 5 [some (.inr (some (4, 0))), some (.inl a1), some (.inl a2), o3, o4, o5, o6, o7] [.inl s0] σ (0, 0) := by
  refine ru_ok hX (fun hok => ?_)
  replace h := h hok
  obtain ⟨k1, h⟩ := h
  refine ru_if_eq (tgt := 17) hX dX4_almost_5 (by decide) k1 (fun q => ?_) (fun q => ?_)
  · have q2 := q
    replace h := h.1 q2
    refine ru_iconst hX dX4_almost_17 (fun _ => ?_)
    exact ru_ireturn hX dX4_almost_18 (Or.inl rfl) ⟨Nat.zero_le _, Nat.zero_le _⟩ (fun _ => h)
  · have q3 := q
    replace h := h.2 q3
    refine ru_iload_n hX dX4_almost_8 rfl (fun _ => ?_)
    obtain ⟨k4, h⟩ := h
    refine ru_if_lt (tgt := 17) hX dX4_almost_9 (by decide) k4 (fun q => ?_) (fun q => ?_)
    · have q5 := q
      replace h := h.1 q5
      refine ru_iconst hX dX4_almost_17 (fun _ => ?_)
      exact ru_ireturn hX dX4_almost_18 (Or.inl rfl) ⟨Nat.zero_le _, Nat.zero_le _⟩ (fun _ => h)
    · have q6 := q
      replace h := h.2 q6
      refine ru_iload_n hX dX4_almost_12 rfl (fun _ => ?_)
      refine ru_iconst hX dX4_almost_13 (fun _ => ?_)
      refine ru_icmp_le (tgt := 19) hX dX4_almost_14 (by decide) k4 (by unfold eh_r; decide) (fun q => ?_) (fun q => ?_)
      · have q7 := q
        replace h := h.1 q7
        refine ru_iconst hX dX4_almost_19 (fun _ => ?_)
        refine ru_istore_n (ls1 := [some (.inr (some (4, 0))), some (.inl a1), some (.inl a2), some (.inl 0), o4, o5, o6, o7]) hX dX4_almost_20 (Nat.le_of_ble_eq_true rfl) rfl (fun _ => ?_)
        refine ru_iconst hX dX4_almost_21 (fun _ => ?_)
        refine ru_istore (ls1 := [some (.inr (some (4, 0))), some (.inl a1), some (.inl a2), some (.inl 0), some (.inl 0), o5, o6, o7]) hX dX4_almost_22 (Nat.le_of_ble_eq_true rfl) rfl (fun _ => ?_)
        exact h
      · have q8 := q
        replace h := h.2 q8
        refine ru_iconst hX dX4_almost_17 (fun _ => ?_)
        exact ru_ireturn hX dX4_almost_18 (Or.inl rfl) ⟨Nat.zero_le _, Nat.zero_le _⟩ (fun _ => h)
theorem bX4_almost_24 {cs ss : Nat → Option (Nat × eh_T)} {lim : Nat × Nat} {Rt : Option eh_V → eh_S → Prop} {X : eh_X} (hX : eh_Ru eh_nX eh_fl4 eh_kn4 cs ss lim Rt 0 cX4_almost X)  {σ : eh_S}  {a1 : Int} {a2 : Int} {a3 : Int} {a4 : Int} {o5 : Option eh_V} {o6 : Option eh_V} {o7 : Option eh_V}  (h : eh_ok σ → (0 ≤ a1 ∧ a1 < 8) ∧ (-2147483648 ≤ a4 ∧ a4 < 2147483648) ∧ ((σ.2 529 0 a1 ≤ a4 → Rt (some (.inl a3)) σ) ∧ (¬ σ.2 529 0 a1 ≤ a4 → (0 ≤ (201 * a1) + a4 ∧ (201 * a1) + a4 < 1608) ∧ (0 ≤ ((24 * ((201 * a1) + a4)) + (σ.2 530 0 ((201 * a1) + a4))) - 1 ∧ ((24 * ((201 * a1) + a4)) + (σ.2 530 0 ((201 * a1) + a4))) - 1 < 38592) ∧ X 78 [some (.inr (some (4, 0))), some (.inl a1), some (.inl a2), some (.inl a3), some (.inl a4), some (.inl (σ.2 533 0 (((24 * ((201 * a1) + a4)) + (σ.2 530 0 ((201 * a1) + a4))) - 1))), some (.inl 0), some (.inl ((σ.2 533 0 (((24 * ((201 * a1) + a4)) + (σ.2 530 0 ((201 * a1) + a4))) - 1)) + 1))] [] σ (0, 0)))) : X 24 [some (.inr (some (4, 0))), some (.inl a1), some (.inl a2), some (.inl a3), some (.inl a4), o5, o6, o7] [] σ (0, 0) := by
  refine ru_ok hX (fun hok => ?_)
  replace h := h hok
  refine ru_iload hX dX4_almost_24 rfl (fun _ => ?_)
  refine ru_aload_n hX dX4_almost_26 rfl (fun _ => ?_)
  refine ru_get (v := .inr (some (529, 0))) hX dX4_almost_27 rfl ⟨by decide, by decide⟩ rfl (fun _ => ?_)
  refine ru_iload_n hX dX4_almost_30 rfl (fun _ => ?_)
  obtain ⟨k1, h⟩ := h
  refine ru_iaload hX dX4_almost_31 ⟨by decide, by decide⟩ rfl k1 (fun _ => ?_)
  obtain ⟨k2, h⟩ := h
  refine ru_icmp_ge (tgt := 143) hX dX4_almost_32 (by decide) k2 (hok.2 _ _ _ (by decide) (by decide) (by decide) (by decide)) (fun q => ?_) (fun q => ?_)
  · have q3 := q
    replace h := h.1 q3
    refine ru_iload_n hX dX4_almost_143 rfl (fun _ => ?_)
    exact ru_ireturn hX dX4_almost_144 (Or.inl rfl) ⟨Nat.zero_le _, Nat.zero_le _⟩ (fun _ => h)
  · have q4 := q
    replace h := h.2 q4
    refine ru_aload_n hX dX4_almost_35 rfl (fun _ => ?_)
    refine ru_get (v := .inr (some (533, 0))) hX dX4_almost_36 rfl ⟨by decide, by decide⟩ rfl (fun _ => ?_)
    refine ru_bipush hX dX4_almost_39 (by decide) (fun _ => ?_)
    refine ru_sipush hX dX4_almost_41 (by decide) (fun _ => ?_)
    refine ru_iload_n hX dX4_almost_44 rfl (fun _ => ?_)
    refine ru_imul hX dX4_almost_45 (fun _ => ?_)
    refine ru_iload hX dX4_almost_46 rfl (fun _ => ?_)
    refine ru_iadd hX dX4_almost_48 (fun _ => ?_)
    refine ru_imul hX dX4_almost_49 (fun _ => ?_)
    refine ru_aload_n hX dX4_almost_50 rfl (fun _ => ?_)
    refine ru_get (v := .inr (some (530, 0))) hX dX4_almost_51 rfl ⟨by decide, by decide⟩ rfl (fun _ => ?_)
    refine ru_sipush hX dX4_almost_54 (by decide) (fun _ => ?_)
    refine ru_iload_n hX dX4_almost_57 rfl (fun _ => ?_)
    refine ru_imul hX dX4_almost_58 (fun _ => ?_)
    refine ru_iload hX dX4_almost_59 rfl (fun _ => ?_)
    refine ru_iadd hX dX4_almost_61 (fun _ => ?_)
    obtain ⟨k5, h⟩ := h
    refine ru_iaload hX dX4_almost_62 ⟨by decide, by decide⟩ rfl k5 (fun _ => ?_)
    refine ru_iadd hX dX4_almost_63 (fun _ => ?_)
    refine ru_iconst hX dX4_almost_64 (fun _ => ?_)
    refine ru_isub hX dX4_almost_65 (fun _ => ?_)
    obtain ⟨k6, h⟩ := h
    refine ru_iaload hX dX4_almost_66 ⟨by decide, by decide⟩ rfl k6 (fun _ => ?_)
    refine ru_istore (ls1 := [some (.inr (some (4, 0))), some (.inl a1), some (.inl a2), some (.inl a3), some (.inl a4), some (.inl (σ.2 533 0 (((24 * ((201 * a1) + a4)) + (σ.2 530 0 ((201 * a1) + a4))) - 1))), o6, o7]) hX dX4_almost_67 (Nat.le_of_ble_eq_true rfl) rfl (fun _ => ?_)
    refine ru_iconst hX dX4_almost_69 (fun _ => ?_)
    refine ru_istore (ls1 := [some (.inr (some (4, 0))), some (.inl a1), some (.inl a2), some (.inl a3), some (.inl a4), some (.inl (σ.2 533 0 (((24 * ((201 * a1) + a4)) + (σ.2 530 0 ((201 * a1) + a4))) - 1))), some (.inl 0), o7]) hX dX4_almost_70 (Nat.le_of_ble_eq_true rfl) rfl (fun _ => ?_)
    refine ru_iload hX dX4_almost_72 rfl (fun _ => ?_)
    refine ru_iconst hX dX4_almost_74 (fun _ => ?_)
    refine ru_iadd hX dX4_almost_75 (fun _ => ?_)
    refine ru_istore (ls1 := [some (.inr (some (4, 0))), some (.inl a1), some (.inl a2), some (.inl a3), some (.inl a4), some (.inl (σ.2 533 0 (((24 * ((201 * a1) + a4)) + (σ.2 530 0 ((201 * a1) + a4))) - 1))), some (.inl 0), some (.inl ((σ.2 533 0 (((24 * ((201 * a1) + a4)) + (σ.2 530 0 ((201 * a1) + a4))) - 1)) + 1))]) hX dX4_almost_76 (Nat.le_of_ble_eq_true rfl) rfl (fun _ => ?_)
    exact h
theorem bX4_almost_78 {cs ss : Nat → Option (Nat × eh_T)} {lim : Nat × Nat} {Rt : Option eh_V → eh_S → Prop} {X : eh_X} (hX : eh_Ru eh_nX eh_fl4 eh_kn4 cs ss lim Rt 0 cX4_almost X) {T140 : eh_T} (hc140 : ss 140 = some (1, T140)) {σ : eh_S}  {a1 : Int} {a2 : Int} {a3 : Int} {a4 : Int} {o5 : Option eh_V} {a6 : Int} {a7 : Int}  (h : eh_ok σ → (0 ≤ a1 ∧ a1 < 8) ∧ (-2147483648 ≤ a7 ∧ a7 < 2147483648) ∧ ((σ.2 519 0 a1 ≤ a7 → (-2147483648 ≤ a6 ∧ a6 < 2147483648) ∧ (-2147483648 ≤ a2 ∧ a2 < 2147483648) ∧ ((a2 < a6 → X 24 [some (.inr (some (4, 0))), some (.inl a1), some (.inl a2), some (.inl (a3 + 0)), some (.inl (a4 + 1)), o5, some (.inl a6), some (.inl a7)] [] σ (0, 0)) ∧ (¬ a2 < a6 → X 24 [some (.inr (some (4, 0))), some (.inl a1), some (.inl a2), some (.inl (a3 + 1)), some (.inl (a4 + 1)), o5, some (.inl a6), some (.inl a7)] [] σ (0, 0)))) ∧ (¬ σ.2 519 0 a1 ≤ a7 → (0 ≤ (6 * a1) + a7 ∧ (6 * a1) + a7 < 48) ∧ T140 [.inl (σ.2 524 0 ((6 * a1) + a7))] σ (0, 0) (fun r σ1 => X 106 [some (.inr (some (4, 0))), some (.inl a1), some (.inl a2), some (.inl a3), some (.inl a4), o5, some (.inl a6), some (.inl a7)] (r.toList ++ [.inl a6]) σ1 (0, 0))))) : X 78 [some (.inr (some (4, 0))), some (.inl a1), some (.inl a2), some (.inl a3), some (.inl a4), o5, some (.inl a6), some (.inl a7)] [] σ (0, 0) := by
  refine ru_ok hX (fun hok => ?_)
  replace h := h hok
  refine ru_iload hX dX4_almost_78 rfl (fun _ => ?_)
  refine ru_aload_n hX dX4_almost_80 rfl (fun _ => ?_)
  refine ru_get (v := .inr (some (519, 0))) hX dX4_almost_81 rfl ⟨by decide, by decide⟩ rfl (fun _ => ?_)
  refine ru_iload_n hX dX4_almost_84 rfl (fun _ => ?_)
  obtain ⟨k1, h⟩ := h
  refine ru_iaload hX dX4_almost_85 ⟨by decide, by decide⟩ rfl k1 (fun _ => ?_)
  obtain ⟨k2, h⟩ := h
  refine ru_icmp_ge (tgt := 123) hX dX4_almost_86 (by decide) k2 (hok.2 _ _ _ (by decide) (by decide) (by decide) (by decide)) (fun q => ?_) (fun q => ?_)
  · have q3 := q
    replace h := h.1 q3
    refine ru_iload_n hX dX4_almost_123 rfl (fun _ => ?_)
    refine ru_iload hX dX4_almost_124 rfl (fun _ => ?_)
    refine ru_iload_n hX dX4_almost_126 rfl (fun _ => ?_)
    obtain ⟨k4, h⟩ := h
    obtain ⟨k5, h⟩ := h
    refine ru_icmp_gt (tgt := 134) hX dX4_almost_127 (by decide) k4 k5 (fun q => ?_) (fun q => ?_)
    · have q6 := q
      replace h := h.1 q6
      refine ru_iconst hX dX4_almost_134 (fun _ => ?_)
      refine ru_iadd hX dX4_almost_135 (fun _ => ?_)
      refine ru_istore_n (ls1 := [some (.inr (some (4, 0))), some (.inl a1), some (.inl a2), some (.inl (a3 + 0)), some (.inl a4), o5, some (.inl a6), some (.inl a7)]) hX dX4_almost_136 (Nat.le_of_ble_eq_true rfl) rfl (fun _ => ?_)
      refine ru_iinc (ls1 := [some (.inr (some (4, 0))), some (.inl a1), some (.inl a2), some (.inl (a3 + 0)), some (.inl (a4 + 1)), o5, some (.inl a6), some (.inl a7)]) hX dX4_almost_137 rfl rfl (fun _ => ?_)
      refine ru_goto (tgt := 24) hX dX4_almost_140 (by decide) ?_
      exact h
    · have q7 := q
      replace h := h.2 q7
      refine ru_iconst hX dX4_almost_130 (fun _ => ?_)
      refine ru_goto (tgt := 135) hX dX4_almost_131 (by decide) ?_
      refine ru_iadd hX dX4_almost_135 (fun _ => ?_)
      refine ru_istore_n (ls1 := [some (.inr (some (4, 0))), some (.inl a1), some (.inl a2), some (.inl (a3 + 1)), some (.inl a4), o5, some (.inl a6), some (.inl a7)]) hX dX4_almost_136 (Nat.le_of_ble_eq_true rfl) rfl (fun _ => ?_)
      refine ru_iinc (ls1 := [some (.inr (some (4, 0))), some (.inl a1), some (.inl a2), some (.inl (a3 + 1)), some (.inl (a4 + 1)), o5, some (.inl a6), some (.inl a7)]) hX dX4_almost_137 rfl rfl (fun _ => ?_)
      refine ru_goto (tgt := 24) hX dX4_almost_140 (by decide) ?_
      exact h
  · have q8 := q
    replace h := h.2 q8
    refine ru_iload hX dX4_almost_89 rfl (fun _ => ?_)
    refine ru_aload_n hX dX4_almost_91 rfl (fun _ => ?_)
    refine ru_get (v := .inr (some (524, 0))) hX dX4_almost_92 rfl ⟨by decide, by decide⟩ rfl (fun _ => ?_)
    refine ru_bipush hX dX4_almost_95 (by decide) (fun _ => ?_)
    refine ru_iload_n hX dX4_almost_97 rfl (fun _ => ?_)
    refine ru_imul hX dX4_almost_98 (fun _ => ?_)
    refine ru_iload hX dX4_almost_99 rfl (fun _ => ?_)
    refine ru_iadd hX dX4_almost_101 (fun _ => ?_)
    obtain ⟨k9, h⟩ := h
    refine ru_iaload hX dX4_almost_102 ⟨by decide, by decide⟩ rfl k9 (fun _ => ?_)
    exact ru_callS (as := [.inl (σ.2 524 0 ((6 * a1) + a7))]) (rest := [.inl a6]) hX dX4_almost_103 hc140 rfl (Nat.le_of_ble_eq_true rfl) (0, 0) ⟨Nat.zero_le _, Nat.zero_le _⟩ h
theorem bX4_almost_106 {cs ss : Nat → Option (Nat × eh_T)} {lim : Nat × Nat} {Rt : Option eh_V → eh_S → Prop} {X : eh_X} (hX : eh_Ru eh_nX eh_fl4 eh_kn4 cs ss lim Rt 0 cX4_almost X)  {σ : eh_S}  {a1 : Int} {a2 : Int} {a3 : Int} {a4 : Int} {o5 : Option eh_V} {o6 : Option eh_V} {a7 : Int} {s0 : Int} {s1 : Int}  (h : eh_ok σ → (-2147483648 ≤ s0 ∧ s0 < 2147483648) ∧ ((s0 = 0 → X 78 [some (.inr (some (4, 0))), some (.inl a1), some (.inl a2), some (.inl a3), some (.inl a4), o5, some (.inl (s1 + 0)), some (.inl (a7 + 1))] [] σ (0, 0)) ∧ (¬ s0 = 0 → X 78 [some (.inr (some (4, 0))), some (.inl a1), some (.inl a2), some (.inl a3), some (.inl a4), o5, some (.inl (s1 + 1)), some (.inl (a7 + 1))] [] σ (0, 0)))) : X 106 [some (.inr (some (4, 0))), some (.inl a1), some (.inl a2), some (.inl a3), some (.inl a4), o5, o6, some (.inl a7)] [.inl s0, .inl s1] σ (0, 0) := by
  refine ru_ok hX (fun hok => ?_)
  replace h := h hok
  obtain ⟨k1, h⟩ := h
  refine ru_if_eq (tgt := 113) hX dX4_almost_106 (by decide) k1 (fun q => ?_) (fun q => ?_)
  · have q2 := q
    replace h := h.1 q2
    refine ru_iconst hX dX4_almost_113 (fun _ => ?_)
    refine ru_iadd hX dX4_almost_114 (fun _ => ?_)
    refine ru_istore (ls1 := [some (.inr (some (4, 0))), some (.inl a1), some (.inl a2), some (.inl a3), some (.inl a4), o5, some (.inl (s1 + 0)), some (.inl a7)]) hX dX4_almost_115 (Nat.le_of_ble_eq_true rfl) rfl (fun _ => ?_)
    refine ru_iinc (ls1 := [some (.inr (some (4, 0))), some (.inl a1), some (.inl a2), some (.inl a3), some (.inl a4), o5, some (.inl (s1 + 0)), some (.inl (a7 + 1))]) hX dX4_almost_117 rfl rfl (fun _ => ?_)
    refine ru_goto (tgt := 78) hX dX4_almost_120 (by decide) ?_
    exact h
  · have q3 := q
    replace h := h.2 q3
    refine ru_iconst hX dX4_almost_109 (fun _ => ?_)
    refine ru_goto (tgt := 114) hX dX4_almost_110 (by decide) ?_
    refine ru_iadd hX dX4_almost_114 (fun _ => ?_)
    refine ru_istore (ls1 := [some (.inr (some (4, 0))), some (.inl a1), some (.inl a2), some (.inl a3), some (.inl a4), o5, some (.inl (s1 + 1)), some (.inl a7)]) hX dX4_almost_115 (Nat.le_of_ble_eq_true rfl) rfl (fun _ => ?_)
    refine ru_iinc (ls1 := [some (.inr (some (4, 0))), some (.inl a1), some (.inl a2), some (.inl a3), some (.inl a4), o5, some (.inl (s1 + 1)), some (.inl (a7 + 1))]) hX dX4_almost_117 rfl rfl (fun _ => ?_)
    refine ru_goto (tgt := 78) hX dX4_almost_120 (by decide) ?_
    exact h
theorem bX4_plain_0 {cs ss : Nat → Option (Nat × eh_T)} {lim : Nat × Nat} {Rt : Option eh_V → eh_S → Prop} {X : eh_X} (hX : eh_Ru eh_nX eh_fl4 eh_kn4 cs ss lim Rt 0 cX4_plain X) {T143 : eh_T} (hc143 : cs 143 = some (2, T143)) {σ : eh_S}  {a1 : Int} {o2 : Option eh_V} {o3 : Option eh_V}  (h : eh_ok σ → T143 [.inr (some (4, 0)), .inl a1] σ (0, 0) (fun r σ1 => X 5 [some (.inr (some (4, 0))), some (.inl a1), o2, o3] (r.toList ++ []) σ1 (0, 0))) : X 0 [some (.inr (some (4, 0))), some (.inl a1), o2, o3] [] σ (0, 0) := by
  refine ru_ok hX (fun hok => ?_)
  replace h := h hok
  refine ru_aload_n hX dX4_plain_0 rfl (fun _ => ?_)
  refine ru_iload_n hX dX4_plain_1 rfl (fun _ => ?_)
  exact ru_callV (as := [.inr (some (4, 0)), .inl a1]) (rest := []) hX dX4_plain_2 hc143 rfl (Nat.le_of_ble_eq_true rfl) (0, 0) ⟨Nat.zero_le _, Nat.zero_le _⟩ h
theorem bX4_plain_5 {cs ss : Nat → Option (Nat × eh_T)} {lim : Nat × Nat} {Rt : Option eh_V → eh_S → Prop} {X : eh_X} (hX : eh_Ru eh_nX eh_fl4 eh_kn4 cs ss lim Rt 0 cX4_plain X)  {σ : eh_S}  {a1 : Int} {o2 : Option eh_V} {o3 : Option eh_V} {s0 : Int}  (h : eh_ok σ → (-2147483648 ≤ s0 ∧ s0 < 2147483648) ∧ ((s0 = 0 → Rt (some (.inl (-1))) σ) ∧ (¬ s0 = 0 → (0 ≤ a1 ∧ a1 < 8) ∧ ((σ.2 521 0 a1 = 0 → Rt (some (.inl (-1))) σ) ∧ (¬ σ.2 521 0 a1 = 0 → (-2147483648 ≤ (σ.1 508 0) - (σ.2 520 0 a1) ∧ (σ.1 508 0) - (σ.2 520 0 a1) < 2147483648) ∧ (((σ.1 508 0) - (σ.2 520 0 a1) ≤ 12 → X 66 [some (.inr (some (4, 0))), some (.inl a1), some (.inl 0), some (.inl 0)] [] (eh_sV (eh_sA (eh_sA σ 546 0 0 (σ.2 520 0 a1)) 547 0 0 (-1)) 542 0 0) (0, 0)) ∧ (¬ (σ.1 508 0) - (σ.2 520 0 a1) ≤ 12 → Rt (some (.inl (-6))) σ))))))) : X 5 [some (.inr (some (4, 0))), some (.inl a1), o2, o3] [.inl s0] σ (0, 0) := by
  refine ru_ok hX (fun hok => ?_)
  replace h := h hok
  obtain ⟨k1, h⟩ := h
  refine ru_if_eq (tgt := 17) hX dX4_plain_5 (by decide) k1 (fun q => ?_) (fun q => ?_)
  · have q2 := q
    replace h := h.1 q2
    refine ru_iconst hX dX4_plain_17 (fun _ => ?_)
    exact ru_ireturn hX dX4_plain_18 (Or.inl rfl) ⟨Nat.zero_le _, Nat.zero_le _⟩ (fun _ => h)
  · have q3 := q
    replace h := h.2 q3
    refine ru_aload_n hX dX4_plain_8 rfl (fun _ => ?_)
    refine ru_get (v := .inr (some (521, 0))) hX dX4_plain_9 rfl ⟨by decide, by decide⟩ rfl (fun _ => ?_)
    refine ru_iload_n hX dX4_plain_12 rfl (fun _ => ?_)
    obtain ⟨k4, h⟩ := h
    refine ru_zaload hX dX4_plain_13 (by decide) ⟨by decide, by decide⟩ rfl k4 (fun _ => ?_)
    refine ru_if_ne (tgt := 19) hX dX4_plain_14 (by decide) (hok.2 _ _ _ (by decide) (by decide) (by decide) (by decide)) (fun q => ?_) (fun q => ?_)
    · have q5 := q
      replace h := h.2 q5
      refine ru_aload_n hX dX4_plain_19 rfl (fun _ => ?_)
      refine ru_get (v := .inl (σ.1 508 0)) hX dX4_plain_20 rfl ⟨by decide, by decide⟩ rfl (fun _ => ?_)
      refine ru_aload_n hX dX4_plain_23 rfl (fun _ => ?_)
      refine ru_get (v := .inr (some (520, 0))) hX dX4_plain_24 rfl ⟨by decide, by decide⟩ rfl (fun _ => ?_)
      refine ru_iload_n hX dX4_plain_27 rfl (fun _ => ?_)
      refine ru_iaload hX dX4_plain_28 ⟨by decide, by decide⟩ rfl k4 (fun _ => ?_)
      refine ru_isub hX dX4_plain_29 (fun _ => ?_)
      refine ru_bipush hX dX4_plain_30 (by decide) (fun _ => ?_)
      obtain ⟨k6, h⟩ := h
      refine ru_icmp_le (tgt := 38) hX dX4_plain_32 (by decide) k6 (by unfold eh_r; decide) (fun q => ?_) (fun q => ?_)
      · have q7 := q
        replace h := h.1 q7
        refine ru_iconst hX dX4_plain_38 (fun _ => ?_)
        refine ru_istore_n (ls1 := [some (.inr (some (4, 0))), some (.inl a1), some (.inl 0), o3]) hX dX4_plain_39 (Nat.le_of_ble_eq_true rfl) rfl (fun _ => ?_)
        refine ru_iconst hX dX4_plain_40 (fun _ => ?_)
        refine ru_istore_n (ls1 := [some (.inr (some (4, 0))), some (.inl a1), some (.inl 0), some (.inl 0)]) hX dX4_plain_41 (Nat.le_of_ble_eq_true rfl) rfl (fun _ => ?_)
        refine ru_aload_n hX dX4_plain_42 rfl (fun _ => ?_)
        refine ru_get (v := .inr (some (546, 0))) hX dX4_plain_43 rfl ⟨by decide, by decide⟩ rfl (fun _ => ?_)
        refine ru_iconst hX dX4_plain_46 (fun _ => ?_)
        refine ru_aload_n hX dX4_plain_47 rfl (fun _ => ?_)
        refine ru_get (v := .inr (some (520, 0))) hX dX4_plain_48 rfl ⟨by decide, by decide⟩ rfl (fun _ => ?_)
        refine ru_iload_n hX dX4_plain_51 rfl (fun _ => ?_)
        refine ru_iaload hX dX4_plain_52 ⟨by decide, by decide⟩ rfl k4 (fun _ => ?_)
        refine ru_iastore hX dX4_plain_53 ⟨by decide, by decide⟩ rfl ⟨by decide, by decide⟩ (hok.2 _ _ _ (by decide) (by decide) (by decide) (by decide)) (fun _ => ?_)
        refine ru_aload_n hX dX4_plain_54 rfl (fun hok8 => ?_)
        refine ru_get (v := .inr (some (547, 0))) hX dX4_plain_55 rfl ⟨by decide, by decide⟩ rfl (fun _ => ?_)
        refine ru_iconst hX dX4_plain_58 (fun _ => ?_)
        refine ru_iconst hX dX4_plain_59 (fun _ => ?_)
        refine ru_iastore hX dX4_plain_60 ⟨by decide, by decide⟩ rfl ⟨by decide, by decide⟩ (by unfold eh_r; decide) (fun _ => ?_)
        refine ru_aload_n hX dX4_plain_61 rfl (fun hok9 => ?_)
        refine ru_iconst hX dX4_plain_62 (fun _ => ?_)
        refine ru_putI (id := 542) hX dX4_plain_63 rfl ⟨by decide, by decide⟩ rfl (by unfold eh_r; decide) rfl (fun _ => ?_)
        exact h
      · have q10 := q
        replace h := h.2 q10
        refine ru_bipush hX dX4_plain_35 (by decide) (fun _ => ?_)
        exact ru_ireturn hX dX4_plain_37 (Or.inl rfl) ⟨Nat.zero_le _, Nat.zero_le _⟩ (fun _ => h)
    · have q11 := q
      replace h := h.1 q11
      refine ru_iconst hX dX4_plain_17 (fun _ => ?_)
      exact ru_ireturn hX dX4_plain_18 (Or.inl rfl) ⟨Nat.zero_le _, Nat.zero_le _⟩ (fun _ => h)
theorem bX4_plain_66 {cs ss : Nat → Option (Nat × eh_T)} {lim : Nat × Nat} {Rt : Option eh_V → eh_S → Prop} {X : eh_X} (hX : eh_Ru eh_nX eh_fl4 eh_kn4 cs ss lim Rt 0 cX4_plain X) {T240 : eh_T} (hc240 : cs 240 = some (3, T240)) {σ : eh_S}  {a1 : Int} {a2 : Int} {a3 : Int}  (h : eh_ok σ → (-2147483648 ≤ a3 ∧ a3 < 2147483648) ∧ ((a3 < 0 → Rt (some (.inl a2)) σ) ∧ (¬ a3 < 0 → T240 [.inr (some (4, 0)), .inl a1, .inl a3] (eh_sV σ 542 0 a3) (0, 0) (fun r σ1 => X 81 [some (.inr (some (4, 0))), some (.inl a1), some (.inl a2), some (.inl a3)] (r.toList ++ []) σ1 (0, 0))))) : X 66 [some (.inr (some (4, 0))), some (.inl a1), some (.inl a2), some (.inl a3)] [] σ (0, 0) := by
  refine ru_ok hX (fun hok => ?_)
  replace h := h hok
  refine ru_iload_n hX dX4_plain_66 rfl (fun _ => ?_)
  obtain ⟨k1, h⟩ := h
  refine ru_if_lt (tgt := 146) hX dX4_plain_67 (by decide) k1 (fun q => ?_) (fun q => ?_)
  · have q2 := q
    replace h := h.1 q2
    refine ru_iload_n hX dX4_plain_146 rfl (fun _ => ?_)
    exact ru_ireturn hX dX4_plain_147 (Or.inl rfl) ⟨Nat.zero_le _, Nat.zero_le _⟩ (fun _ => h)
  · have q3 := q
    replace h := h.2 q3
    refine ru_aload_n hX dX4_plain_70 rfl (fun _ => ?_)
    refine ru_iload_n hX dX4_plain_71 rfl (fun _ => ?_)
    refine ru_putI (id := 542) hX dX4_plain_72 rfl ⟨by decide, by decide⟩ rfl k1 rfl (fun _ => ?_)
    refine ru_aload_n hX dX4_plain_75 rfl (fun hok4 => ?_)
    refine ru_iload_n hX dX4_plain_76 rfl (fun _ => ?_)
    refine ru_iload_n hX dX4_plain_77 rfl (fun _ => ?_)
    exact ru_callV (as := [.inr (some (4, 0)), .inl a1, .inl a3]) (rest := []) hX dX4_plain_78 hc240 rfl (Nat.le_of_ble_eq_true rfl) (0, 0) ⟨Nat.zero_le _, Nat.zero_le _⟩ h
theorem bX4_plain_81 {cs ss : Nat → Option (Nat × eh_T)} {lim : Nat × Nat} {Rt : Option eh_V → eh_S → Prop} {X : eh_X} (hX : eh_Ru eh_nX eh_fl4 eh_kn4 cs ss lim Rt 0 cX4_plain X) {T188 : eh_T} (hc188 : cs 188 = some (3, T188)) {σ : eh_S}  {a1 : Int} {a2 : Int} {a3 : Int} {s0 : Int}  (h : eh_ok σ → (-2147483648 ≤ s0 ∧ s0 < 2147483648) ∧ ((s0 = 0 → X 66 [some (.inr (some (4, 0))), some (.inl a1), some (.inl a2), some (.inl (a3 + (-1)))] [] σ (0, 0)) ∧ (¬ s0 = 0 → (0 ≤ a3 ∧ a3 < 26) ∧ T188 [.inr (some (4, 0)), .inl (σ.2 546 0 a3), .inl (σ.2 547 0 a3)] σ (0, 0) (fun r σ1 => X 106 [some (.inr (some (4, 0))), some (.inl a1), some (.inl a2), some (.inl a3)] (r.toList ++ []) σ1 (0, 0))))) : X 81 [some (.inr (some (4, 0))), some (.inl a1), some (.inl a2), some (.inl a3)] [.inl s0] σ (0, 0) := by
  refine ru_ok hX (fun hok => ?_)
  replace h := h hok
  obtain ⟨k1, h⟩ := h
  refine ru_if_ne (tgt := 90) hX dX4_plain_81 (by decide) k1 (fun q => ?_) (fun q => ?_)
  · have q2 := q
    replace h := h.2 q2
    refine ru_aload_n hX dX4_plain_90 rfl (fun _ => ?_)
    refine ru_aload_n hX dX4_plain_91 rfl (fun _ => ?_)
    refine ru_get (v := .inr (some (546, 0))) hX dX4_plain_92 rfl ⟨by decide, by decide⟩ rfl (fun _ => ?_)
    refine ru_iload_n hX dX4_plain_95 rfl (fun _ => ?_)
    obtain ⟨k3, h⟩ := h
    refine ru_iaload hX dX4_plain_96 ⟨by decide, by decide⟩ rfl k3 (fun _ => ?_)
    refine ru_aload_n hX dX4_plain_97 rfl (fun _ => ?_)
    refine ru_get (v := .inr (some (547, 0))) hX dX4_plain_98 rfl ⟨by decide, by decide⟩ rfl (fun _ => ?_)
    refine ru_iload_n hX dX4_plain_101 rfl (fun _ => ?_)
    refine ru_iaload hX dX4_plain_102 ⟨by decide, by decide⟩ rfl k3 (fun _ => ?_)
    exact ru_callV (as := [.inr (some (4, 0)), .inl (σ.2 546 0 a3), .inl (σ.2 547 0 a3)]) (rest := []) hX dX4_plain_103 hc188 rfl (Nat.le_of_ble_eq_true rfl) (0, 0) ⟨Nat.zero_le _, Nat.zero_le _⟩ h
  · have q4 := q
    replace h := h.1 q4
    refine ru_iinc (ls1 := [some (.inr (some (4, 0))), some (.inl a1), some (.inl a2), some (.inl (a3 + (-1)))]) hX dX4_plain_84 rfl rfl (fun _ => ?_)
    refine ru_goto (tgt := 66) hX dX4_plain_87 (by decide) ?_
    exact h
theorem bX4_plain_106 {cs ss : Nat → Option (Nat × eh_T)} {lim : Nat × Nat} {Rt : Option eh_V → eh_S → Prop} {X : eh_X} (hX : eh_Ru eh_nX eh_fl4 eh_kn4 cs ss lim Rt 0 cX4_plain X) {T191 : eh_T} (hc191 : cs 191 = some (2, T191)) {σ : eh_S}  {a1 : Int} {a2 : Int} {a3 : Int}  (h : eh_ok σ → T191 [.inr (some (4, 0)), .inl a1] σ (0, 0) (fun r σ1 => X 111 [some (.inr (some (4, 0))), some (.inl a1), some (.inl a2), some (.inl a3)] (r.toList ++ []) σ1 (0, 0))) : X 106 [some (.inr (some (4, 0))), some (.inl a1), some (.inl a2), some (.inl a3)] [] σ (0, 0) := by
  refine ru_ok hX (fun hok => ?_)
  replace h := h hok
  refine ru_aload_n hX dX4_plain_106 rfl (fun _ => ?_)
  refine ru_iload_n hX dX4_plain_107 rfl (fun _ => ?_)
  exact ru_callV (as := [.inr (some (4, 0)), .inl a1]) (rest := []) hX dX4_plain_108 hc191 rfl (Nat.le_of_ble_eq_true rfl) (0, 0) ⟨Nat.zero_le _, Nat.zero_le _⟩ h
theorem bX4_plain_111 {cs ss : Nat → Option (Nat × eh_T)} {lim : Nat × Nat} {Rt : Option eh_V → eh_S → Prop} {X : eh_X} (hX : eh_Ru eh_nX eh_fl4 eh_kn4 cs ss lim Rt 0 cX4_plain X)  {σ : eh_S}  {a1 : Int} {a2 : Int} {a3 : Int} {s0 : Int}  (h : eh_ok σ → (-2147483648 ≤ s0 ∧ s0 < 2147483648) ∧ ((s0 = 0 → (0 ≤ (a3 + 1) - 1 ∧ (a3 + 1) - 1 < 26) ∧ (0 ≤ a3 + 1 ∧ a3 + 1 < 26) ∧ (-2147483648 ≤ (σ.2 546 0 ((a3 + 1) - 1)) + 1 ∧ (σ.2 546 0 ((a3 + 1) - 1)) + 1 < 2147483648) ∧ X 66 [some (.inr (some (4, 0))), some (.inl a1), some (.inl a2), some (.inl (a3 + 1))] [] (eh_sA (eh_sA σ 546 0 (a3 + 1) ((σ.2 546 0 ((a3 + 1) - 1)) + 1)) 547 0 (a3 + 1) (-1)) (0, 0)) ∧ (¬ s0 = 0 → (0 ≤ (a3 + 1) - 1 ∧ (a3 + 1) - 1 < 26) ∧ (0 ≤ a3 + 1 ∧ a3 + 1 < 26) ∧ (-2147483648 ≤ (σ.2 546 0 ((a3 + 1) - 1)) + 1 ∧ (σ.2 546 0 ((a3 + 1) - 1)) + 1 < 2147483648) ∧ X 66 [some (.inr (some (4, 0))), some (.inl a1), some (.inl (a2 + 1)), some (.inl (a3 + 1))] [] (eh_sA (eh_sA σ 546 0 (a3 + 1) ((σ.2 546 0 ((a3 + 1) - 1)) + 1)) 547 0 (a3 + 1) (-1)) (0, 0)))) : X 111 [some (.inr (some (4, 0))), some (.inl a1), some (.inl a2), some (.inl a3)] [.inl s0] σ (0, 0) := by
  refine ru_ok hX (fun hok => ?_)
  replace h := h hok
  obtain ⟨k1, h⟩ := h
  refine ru_if_eq (tgt := 117) hX dX4_plain_111 (by decide) k1 (fun q => ?_) (fun q => ?_)
  · have q2 := q
    replace h := h.1 q2
    refine ru_iinc (ls1 := [some (.inr (some (4, 0))), some (.inl a1), some (.inl a2), some (.inl (a3 + 1))]) hX dX4_plain_117 rfl rfl (fun _ => ?_)
    refine ru_aload_n hX dX4_plain_120 rfl (fun _ => ?_)
    refine ru_get (v := .inr (some (546, 0))) hX dX4_plain_121 rfl ⟨by decide, by decide⟩ rfl (fun _ => ?_)
    refine ru_iload_n hX dX4_plain_124 rfl (fun _ => ?_)
    refine ru_aload_n hX dX4_plain_125 rfl (fun _ => ?_)
    refine ru_get (v := .inr (some (546, 0))) hX dX4_plain_126 rfl ⟨by decide, by decide⟩ rfl (fun _ => ?_)
    refine ru_iload_n hX dX4_plain_129 rfl (fun _ => ?_)
    refine ru_iconst hX dX4_plain_130 (fun _ => ?_)
    refine ru_isub hX dX4_plain_131 (fun _ => ?_)
    obtain ⟨k3, h⟩ := h
    refine ru_iaload hX dX4_plain_132 ⟨by decide, by decide⟩ rfl k3 (fun _ => ?_)
    refine ru_iconst hX dX4_plain_133 (fun _ => ?_)
    refine ru_iadd hX dX4_plain_134 (fun _ => ?_)
    obtain ⟨k4, h⟩ := h
    obtain ⟨k5, h⟩ := h
    refine ru_iastore hX dX4_plain_135 ⟨by decide, by decide⟩ rfl k4 k5 (fun _ => ?_)
    refine ru_aload_n hX dX4_plain_136 rfl (fun hok6 => ?_)
    refine ru_get (v := .inr (some (547, 0))) hX dX4_plain_137 rfl ⟨by decide, by decide⟩ rfl (fun _ => ?_)
    refine ru_iload_n hX dX4_plain_140 rfl (fun _ => ?_)
    refine ru_iconst hX dX4_plain_141 (fun _ => ?_)
    refine ru_iastore hX dX4_plain_142 ⟨by decide, by decide⟩ rfl k4 (by unfold eh_r; decide) (fun _ => ?_)
    refine ru_goto (tgt := 66) hX dX4_plain_143 (by decide) ?_
    exact h
  · have q7 := q
    replace h := h.2 q7
    refine ru_iinc (ls1 := [some (.inr (some (4, 0))), some (.inl a1), some (.inl (a2 + 1)), some (.inl a3)]) hX dX4_plain_114 rfl rfl (fun _ => ?_)
    refine ru_iinc (ls1 := [some (.inr (some (4, 0))), some (.inl a1), some (.inl (a2 + 1)), some (.inl (a3 + 1))]) hX dX4_plain_117 rfl rfl (fun _ => ?_)
    refine ru_aload_n hX dX4_plain_120 rfl (fun _ => ?_)
    refine ru_get (v := .inr (some (546, 0))) hX dX4_plain_121 rfl ⟨by decide, by decide⟩ rfl (fun _ => ?_)
    refine ru_iload_n hX dX4_plain_124 rfl (fun _ => ?_)
    refine ru_aload_n hX dX4_plain_125 rfl (fun _ => ?_)
    refine ru_get (v := .inr (some (546, 0))) hX dX4_plain_126 rfl ⟨by decide, by decide⟩ rfl (fun _ => ?_)
    refine ru_iload_n hX dX4_plain_129 rfl (fun _ => ?_)
    refine ru_iconst hX dX4_plain_130 (fun _ => ?_)
    refine ru_isub hX dX4_plain_131 (fun _ => ?_)
    obtain ⟨k8, h⟩ := h
    refine ru_iaload hX dX4_plain_132 ⟨by decide, by decide⟩ rfl k8 (fun _ => ?_)
    refine ru_iconst hX dX4_plain_133 (fun _ => ?_)
    refine ru_iadd hX dX4_plain_134 (fun _ => ?_)
    obtain ⟨k9, h⟩ := h
    obtain ⟨k10, h⟩ := h
    refine ru_iastore hX dX4_plain_135 ⟨by decide, by decide⟩ rfl k9 k10 (fun _ => ?_)
    refine ru_aload_n hX dX4_plain_136 rfl (fun hok11 => ?_)
    refine ru_get (v := .inr (some (547, 0))) hX dX4_plain_137 rfl ⟨by decide, by decide⟩ rfl (fun _ => ?_)
    refine ru_iload_n hX dX4_plain_140 rfl (fun _ => ?_)
    refine ru_iconst hX dX4_plain_141 (fun _ => ?_)
    refine ru_iastore hX dX4_plain_142 ⟨by decide, by decide⟩ rfl k9 (by unfold eh_r; decide) (fun _ => ?_)
    refine ru_goto (tgt := 66) hX dX4_plain_143 (by decide) ?_
    exact h
theorem bX4_nextTry_0 {cs ss : Nat → Option (Nat × eh_T)} {lim : Nat × Nat} {Rt : Option eh_V → eh_S → Prop} {X : eh_X} (hX : eh_Ru eh_nX eh_fl4 eh_kn4 cs ss lim Rt 1 cX4_nextTry X)  {σ : eh_S}  {a1 : Int} {a2 : Int} {o3 : Option eh_V} {o4 : Option eh_V}  (h : eh_ok σ → (0 ≤ a2 ∧ a2 < 26) ∧ X 17 [some (.inr (some (4, 0))), some (.inl a1), some (.inl a2), some (.inl (σ.2 546 0 a2)), some (.inl ((σ.2 547 0 a2) + 1))] [] σ (0, 0)) : X 0 [some (.inr (some (4, 0))), some (.inl a1), some (.inl a2), o3, o4] [] σ (0, 0) := by
  refine ru_ok hX (fun hok => ?_)
  replace h := h hok
  refine ru_aload_n hX dX4_nextTry_0 rfl (fun _ => ?_)
  refine ru_get (v := .inr (some (546, 0))) hX dX4_nextTry_1 rfl ⟨by decide, by decide⟩ rfl (fun _ => ?_)
  refine ru_iload_n hX dX4_nextTry_4 rfl (fun _ => ?_)
  obtain ⟨k1, h⟩ := h
  refine ru_iaload hX dX4_nextTry_5 ⟨by decide, by decide⟩ rfl k1 (fun _ => ?_)
  refine ru_istore_n (ls1 := [some (.inr (some (4, 0))), some (.inl a1), some (.inl a2), some (.inl (σ.2 546 0 a2)), o4]) hX dX4_nextTry_6 (Nat.le_of_ble_eq_true rfl) rfl (fun _ => ?_)
  refine ru_aload_n hX dX4_nextTry_7 rfl (fun _ => ?_)
  refine ru_get (v := .inr (some (547, 0))) hX dX4_nextTry_8 rfl ⟨by decide, by decide⟩ rfl (fun _ => ?_)
  refine ru_iload_n hX dX4_nextTry_11 rfl (fun _ => ?_)
  refine ru_iaload hX dX4_nextTry_12 ⟨by decide, by decide⟩ rfl k1 (fun _ => ?_)
  refine ru_iconst hX dX4_nextTry_13 (fun _ => ?_)
  refine ru_iadd hX dX4_nextTry_14 (fun _ => ?_)
  refine ru_istore (ls1 := [some (.inr (some (4, 0))), some (.inl a1), some (.inl a2), some (.inl (σ.2 546 0 a2)), some (.inl ((σ.2 547 0 a2) + 1))]) hX dX4_nextTry_15 (Nat.le_of_ble_eq_true rfl) rfl (fun _ => ?_)
  exact h
theorem bX4_nextTry_17 {cs ss : Nat → Option (Nat × eh_T)} {lim : Nat × Nat} {Rt : Option eh_V → eh_S → Prop} {X : eh_X} (hX : eh_Ru eh_nX eh_fl4 eh_kn4 cs ss lim Rt 1 cX4_nextTry X)  {σ : eh_S}  {a1 : Int} {a2 : Int} {a3 : Int} {a4 : Int}  (h : eh_ok σ → (-2147483648 ≤ a3 ∧ a3 < 2147483648) ∧ ((σ.1 508 0 ≤ a3 → Rt (some (.inl 0)) σ) ∧ (¬ σ.1 508 0 ≤ a3 → X 25 [some (.inr (some (4, 0))), some (.inl a1), some (.inl a2), some (.inl a3), some (.inl a4)] [] σ (0, 0)))) : X 17 [some (.inr (some (4, 0))), some (.inl a1), some (.inl a2), some (.inl a3), some (.inl a4)] [] σ (0, 0) := by
  refine ru_ok hX (fun hok => ?_)
  replace h := h hok
  refine ru_iload_n hX dX4_nextTry_17 rfl (fun _ => ?_)
  refine ru_aload_n hX dX4_nextTry_18 rfl (fun _ => ?_)
  refine ru_get (v := .inl (σ.1 508 0)) hX dX4_nextTry_19 rfl ⟨by decide, by decide⟩ rfl (fun _ => ?_)
  obtain ⟨k1, h⟩ := h
  refine ru_icmp_ge (tgt := 79) hX dX4_nextTry_22 (by decide) k1 (hok.1 _ _) (fun q => ?_) (fun q => ?_)
  · have q2 := q
    replace h := h.1 q2
    refine ru_iconst hX dX4_nextTry_79 (fun _ => ?_)
    exact ru_ireturn hX dX4_nextTry_80 (Or.inr ⟨rfl, by decide⟩) ⟨Nat.zero_le _, Nat.zero_le _⟩ (fun _ => h)
  · have q3 := q
    replace h := h.2 q3
    exact h
theorem bX4_nextTry_25 {cs ss : Nat → Option (Nat × eh_T)} {lim : Nat × Nat} {Rt : Option eh_V → eh_S → Prop} {X : eh_X} (hX : eh_Ru eh_nX eh_fl4 eh_kn4 cs ss lim Rt 1 cX4_nextTry X) {T163 : eh_T} (hc163 : cs 163 = some (2, T163)) {σ : eh_S}  {a1 : Int} {a2 : Int} {a3 : Int} {a4 : Int}  (h : eh_ok σ → T163 [.inr (some (4, 0)), .inl a1] σ (0, 0) (fun r σ1 => X 32 [some (.inr (some (4, 0))), some (.inl a1), some (.inl a2), some (.inl a3), some (.inl a4)] (r.toList ++ [.inl a4]) σ1 (0, 0))) : X 25 [some (.inr (some (4, 0))), some (.inl a1), some (.inl a2), some (.inl a3), some (.inl a4)] [] σ (0, 0) := by
  refine ru_ok hX (fun hok => ?_)
  replace h := h hok
  refine ru_iload hX dX4_nextTry_25 rfl (fun _ => ?_)
  refine ru_aload_n hX dX4_nextTry_27 rfl (fun _ => ?_)
  refine ru_iload_n hX dX4_nextTry_28 rfl (fun _ => ?_)
  exact ru_callV (as := [.inr (some (4, 0)), .inl a1]) (rest := [.inl a4]) hX dX4_nextTry_29 hc163 rfl (Nat.le_of_ble_eq_true rfl) (0, 0) ⟨Nat.zero_le _, Nat.zero_le _⟩ h
theorem bX4_nextTry_32 {cs ss : Nat → Option (Nat × eh_T)} {lim : Nat × Nat} {Rt : Option eh_V → eh_S → Prop} {X : eh_X} (hX : eh_Ru eh_nX eh_fl4 eh_kn4 cs ss lim Rt 1 cX4_nextTry X) {T243 : eh_T} (hc243 : cs 243 = some (5, T243)) {σ : eh_S}  {a1 : Int} {a2 : Int} {a3 : Int} {a4 : Int} {s0 : Int} {s1 : Int}  (h : eh_ok σ → (-2147483648 ≤ s1 ∧ s1 < 2147483648) ∧ (-2147483648 ≤ s0 ∧ s0 < 2147483648) ∧ ((s0 ≤ s1 → X 17 [some (.inr (some (4, 0))), some (.inl a1), some (.inl a2), some (.inl (a3 + 1)), some (.inl 0)] [] σ (0, 0)) ∧ (¬ s0 ≤ s1 → T243 [.inr (some (4, 0)), .inl a1, .inl a2, .inl a3, .inl a4] σ (0, 0) (fun r σ1 => X 44 [some (.inr (some (4, 0))), some (.inl a1), some (.inl a2), some (.inl a3), some (.inl a4)] (r.toList ++ []) σ1 (0, 0))))) : X 32 [some (.inr (some (4, 0))), some (.inl a1), some (.inl a2), some (.inl a3), some (.inl a4)] [.inl s0, .inl s1] σ (0, 0) := by
  refine ru_ok hX (fun hok => ?_)
  replace h := h hok
  obtain ⟨k1, h⟩ := h
  obtain ⟨k2, h⟩ := h
  refine ru_icmp_ge (tgt := 70) hX dX4_nextTry_32 (by decide) k1 k2 (fun q => ?_) (fun q => ?_)
  · have q3 := q
    replace h := h.1 q3
    refine ru_iinc (ls1 := [some (.inr (some (4, 0))), some (.inl a1), some (.inl a2), some (.inl (a3 + 1)), some (.inl a4)]) hX dX4_nextTry_70 rfl rfl (fun _ => ?_)
    refine ru_iconst hX dX4_nextTry_73 (fun _ => ?_)
    refine ru_istore (ls1 := [some (.inr (some (4, 0))), some (.inl a1), some (.inl a2), some (.inl (a3 + 1)), some (.inl 0)]) hX dX4_nextTry_74 (Nat.le_of_ble_eq_true rfl) rfl (fun _ => ?_)
    refine ru_goto (tgt := 17) hX dX4_nextTry_76 (by decide) ?_
    exact h
  · have q4 := q
    replace h := h.2 q4
    refine ru_aload_n hX dX4_nextTry_35 rfl (fun _ => ?_)
    refine ru_iload_n hX dX4_nextTry_36 rfl (fun _ => ?_)
    refine ru_iload_n hX dX4_nextTry_37 rfl (fun _ => ?_)
    refine ru_iload_n hX dX4_nextTry_38 rfl (fun _ => ?_)
    refine ru_iload hX dX4_nextTry_39 rfl (fun _ => ?_)
    exact ru_callV (as := [.inr (some (4, 0)), .inl a1, .inl a2, .inl a3, .inl a4]) (rest := []) hX dX4_nextTry_41 hc243 rfl (Nat.le_of_ble_eq_true rfl) (0, 0) ⟨Nat.zero_le _, Nat.zero_le _⟩ h
theorem bX4_nextTry_44 {cs ss : Nat → Option (Nat × eh_T)} {lim : Nat × Nat} {Rt : Option eh_V → eh_S → Prop} {X : eh_X} (hX : eh_Ru eh_nX eh_fl4 eh_kn4 cs ss lim Rt 1 cX4_nextTry X)  {σ : eh_S}  {a1 : Int} {a2 : Int} {a3 : Int} {a4 : Int} {s0 : Int}  (h : eh_ok σ → (-2147483648 ≤ s0 ∧ s0 < 2147483648) ∧ ((s0 = 0 → X 25 [some (.inr (some (4, 0))), some (.inl a1), some (.inl a2), some (.inl a3), some (.inl (a4 + 1))] [] σ (0, 0)) ∧ (¬ s0 = 0 → (0 ≤ a2 ∧ a2 < 26) ∧ (-2147483648 ≤ a3 ∧ a3 < 2147483648) ∧ (-2147483648 ≤ a4 ∧ a4 < 2147483648) ∧ Rt (some (.inl 1)) (eh_sA (eh_sA σ 546 0 a2 a3) 547 0 a2 a4)))) : X 44 [some (.inr (some (4, 0))), some (.inl a1), some (.inl a2), some (.inl a3), some (.inl a4)] [.inl s0] σ (0, 0) := by
  refine ru_ok hX (fun hok => ?_)
  replace h := h hok
  obtain ⟨k1, h⟩ := h
  refine ru_if_eq (tgt := 64) hX dX4_nextTry_44 (by decide) k1 (fun q => ?_) (fun q => ?_)
  · have q2 := q
    replace h := h.1 q2
    refine ru_iinc (ls1 := [some (.inr (some (4, 0))), some (.inl a1), some (.inl a2), some (.inl a3), some (.inl (a4 + 1))]) hX dX4_nextTry_64 rfl rfl (fun _ => ?_)
    refine ru_goto (tgt := 25) hX dX4_nextTry_67 (by decide) ?_
    exact h
  · have q3 := q
    replace h := h.2 q3
    refine ru_aload_n hX dX4_nextTry_47 rfl (fun _ => ?_)
    refine ru_get (v := .inr (some (546, 0))) hX dX4_nextTry_48 rfl ⟨by decide, by decide⟩ rfl (fun _ => ?_)
    refine ru_iload_n hX dX4_nextTry_51 rfl (fun _ => ?_)
    refine ru_iload_n hX dX4_nextTry_52 rfl (fun _ => ?_)
    obtain ⟨k4, h⟩ := h
    obtain ⟨k5, h⟩ := h
    refine ru_iastore hX dX4_nextTry_53 ⟨by decide, by decide⟩ rfl k4 k5 (fun _ => ?_)
    refine ru_aload_n hX dX4_nextTry_54 rfl (fun hok6 => ?_)
    refine ru_get (v := .inr (some (547, 0))) hX dX4_nextTry_55 rfl ⟨by decide, by decide⟩ rfl (fun _ => ?_)
    refine ru_iload_n hX dX4_nextTry_58 rfl (fun _ => ?_)
    refine ru_iload hX dX4_nextTry_59 rfl (fun _ => ?_)
    obtain ⟨k7, h⟩ := h
    refine ru_iastore hX dX4_nextTry_61 ⟨by decide, by decide⟩ rfl k4 k7 (fun _ => ?_)
    refine ru_iconst hX dX4_nextTry_62 (fun hok8 => ?_)
    exact ru_ireturn hX dX4_nextTry_63 (Or.inr ⟨rfl, by decide⟩) ⟨Nat.zero_le _, Nat.zero_le _⟩ (fun _ => h)
theorem bX4_may_0 {cs ss : Nat → Option (Nat × eh_T)} {lim : Nat × Nat} {Rt : Option eh_V → eh_S → Prop} {X : eh_X} (hX : eh_Ru eh_nX eh_fl4 eh_kn4 cs ss lim Rt 1 cX4_may X) {T173 : eh_T} (hc173 : cs 173 = some (4, T173)) {σ : eh_S}  {a1 : Int} {a2 : Int} {a3 : Int} {a4 : Int} {o5 : Option eh_V} {o6 : Option eh_V} {o7 : Option eh_V} {o8 : Option eh_V}  (h : eh_ok σ → (0 ≤ (6 * a1) + a4 ∧ (6 * a1) + a4 < 48) ∧ ((σ.2 524 0 ((6 * a1) + a4) = 3 → Rt (some (.inl 0)) σ) ∧ (¬ σ.2 524 0 ((6 * a1) + a4) = 3 → T173 [.inr (some (4, 0)), .inl a1, .inl a4, .inl a3] σ (0, 0) (fun r σ1 => X 28 [some (.inr (some (4, 0))), some (.inl a1), some (.inl a2), some (.inl a3), some (.inl a4), some (.inl (σ.2 524 0 ((6 * a1) + a4))), o6, o7, o8] (r.toList ++ []) σ1 (0, 0))))) : X 0 [some (.inr (some (4, 0))), some (.inl a1), some (.inl a2), some (.inl a3), some (.inl a4), o5, o6, o7, o8] [] σ (0, 0) := by
  refine ru_ok hX (fun hok => ?_)
  replace h := h hok
  refine ru_aload_n hX dX4_may_0 rfl (fun _ => ?_)
  refine ru_get (v := .inr (some (524, 0))) hX dX4_may_1 rfl ⟨by decide, by decide⟩ rfl (fun _ => ?_)
  refine ru_bipush hX dX4_may_4 (by decide) (fun _ => ?_)
  refine ru_iload_n hX dX4_may_6 rfl (fun _ => ?_)
  refine ru_imul hX dX4_may_7 (fun _ => ?_)
  refine ru_iload hX dX4_may_8 rfl (fun _ => ?_)
  refine ru_iadd hX dX4_may_10 (fun _ => ?_)
  obtain ⟨k1, h⟩ := h
  refine ru_iaload hX dX4_may_11 ⟨by decide, by decide⟩ rfl k1 (fun _ => ?_)
  refine ru_istore (ls1 := [some (.inr (some (4, 0))), some (.inl a1), some (.inl a2), some (.inl a3), some (.inl a4), some (.inl (σ.2 524 0 ((6 * a1) + a4))), o6, o7, o8]) hX dX4_may_12 (Nat.le_of_ble_eq_true rfl) rfl (fun _ => ?_)
  refine ru_iload hX dX4_may_14 rfl (fun _ => ?_)
  refine ru_iconst hX dX4_may_16 (fun _ => ?_)
  refine ru_icmp_eq (tgt := 31) hX dX4_may_17 (by decide) (hok.2 _ _ _ (by decide) (by decide) (by decide) (by decide)) (by unfold eh_r; decide) (fun q => ?_) (fun q => ?_)
  · have q2 := q
    replace h := h.1 q2
    refine ru_iconst hX dX4_may_31 (fun _ => ?_)
    exact ru_ireturn hX dX4_may_32 (Or.inr ⟨rfl, by decide⟩) ⟨Nat.zero_le _, Nat.zero_le _⟩ (fun _ => h)
  · have q3 := q
    replace h := h.2 q3
    refine ru_aload_n hX dX4_may_20 rfl (fun _ => ?_)
    refine ru_iload_n hX dX4_may_21 rfl (fun _ => ?_)
    refine ru_iload hX dX4_may_22 rfl (fun _ => ?_)
    refine ru_iload_n hX dX4_may_24 rfl (fun _ => ?_)
    exact ru_callV (as := [.inr (some (4, 0)), .inl a1, .inl a4, .inl a3]) (rest := []) hX dX4_may_25 hc173 rfl (Nat.le_of_ble_eq_true rfl) (0, 0) ⟨Nat.zero_le _, Nat.zero_le _⟩ h
theorem bX4_may_28 {cs ss : Nat → Option (Nat × eh_T)} {lim : Nat × Nat} {Rt : Option eh_V → eh_S → Prop} {X : eh_X} (hX : eh_Ru eh_nX eh_fl4 eh_kn4 cs ss lim Rt 1 cX4_may X)  {σ : eh_S}  {a1 : Int} {a2 : Int} {a3 : Int} {a4 : Int} {a5 : Int} {o6 : Option eh_V} {o7 : Option eh_V} {o8 : Option eh_V} {s0 : Int}  (h : eh_ok σ → (-2147483648 ≤ s0 ∧ s0 < 2147483648) ∧ ((s0 = 0 → Rt (some (.inl 0)) σ) ∧ (¬ s0 = 0 → (-2147483648 ≤ a2 ∧ a2 < 2147483648) ∧ ((a2 = 0 → (-2147483648 ≤ a4 ∧ a4 < 2147483648) ∧ ((a4 = 0 → Rt (some (.inl 1)) σ) ∧ (¬ a4 = 0 → Rt (some (.inl 0)) σ))) ∧ (¬ a2 = 0 → (0 ≤ a1 ∧ a1 < 8) ∧ ((σ.2 518 0 a1 < 0 → (0 ≤ a3 ∧ a3 < 1000) ∧ (0 ≤ σ.2 540 0 0 ∧ σ.2 540 0 0 < 1000) ∧ (-2147483648 ≤ (σ.2 510 0 a3) - (σ.2 510 0 (σ.2 540 0 0)) ∧ (σ.2 510 0 a3) - (σ.2 510 0 (σ.2 540 0 0)) < 2147483648) ∧ (((σ.2 510 0 a3) - (σ.2 510 0 (σ.2 540 0 0)) ≤ σ.2 516 0 a1 → (0 ≤ a2 - 1 ∧ a2 - 1 < 25) ∧ (-2147483648 ≤ a4 ∧ a4 < 2147483648) ∧ ((σ.2 541 0 (a2 - 1) ≤ a4 → ((a4 = σ.2 541 0 (a2 - 1) → X 158 [some (.inr (some (4, 0))), some (.inl a1), some (.inl a2), some (.inl a3), some (.inl a4), some (.inl a5), some (.inl (σ.2 541 0 (a2 - 1))), some (.inl 0), some (.inl 0)] [] σ (0, 0)) ∧ (¬ a4 = σ.2 541 0 (a2 - 1) → X 216 [some (.inr (some (4, 0))), some (.inl a1), some (.inl a2), some (.inl a3), some (.inl a4), some (.inl a5), some (.inl (σ.2 541 0 (a2 - 1))), some (.inl ((σ.2 541 0 (a2 - 1)) + 1)), o8] [] σ (0, 0)))) ∧ (¬ σ.2 541 0 (a2 - 1) ≤ a4 → Rt (some (.inl 0)) σ))) ∧ (¬ (σ.2 510 0 a3) - (σ.2 510 0 (σ.2 540 0 0)) ≤ σ.2 516 0 a1 → Rt (some (.inl 0)) σ))) ∧ (¬ σ.2 518 0 a1 < 0 → (0 ≤ (4 * (σ.2 540 0 0)) + (σ.2 518 0 a1) ∧ (4 * (σ.2 540 0 0)) + (σ.2 518 0 a1) < 4000) ∧ (0 ≤ (4 * a3) + (σ.2 518 0 a1) ∧ (4 * a3) + (σ.2 518 0 a1) < 4000) ∧ ((σ.2 512 0 ((4 * (σ.2 540 0 0)) + (σ.2 518 0 a1)) = σ.2 512 0 ((4 * a3) + (σ.2 518 0 a1)) → (0 ≤ a3 ∧ a3 < 1000) ∧ (0 ≤ σ.2 540 0 0 ∧ σ.2 540 0 0 < 1000) ∧ (-2147483648 ≤ (σ.2 510 0 a3) - (σ.2 510 0 (σ.2 540 0 0)) ∧ (σ.2 510 0 a3) - (σ.2 510 0 (σ.2 540 0 0)) < 2147483648) ∧ (((σ.2 510 0 a3) - (σ.2 510 0 (σ.2 540 0 0)) ≤ σ.2 516 0 a1 → (0 ≤ a2 - 1 ∧ a2 - 1 < 25) ∧ (-2147483648 ≤ a4 ∧ a4 < 2147483648) ∧ ((σ.2 541 0 (a2 - 1) ≤ a4 → ((a4 = σ.2 541 0 (a2 - 1) → X 158 [some (.inr (some (4, 0))), some (.inl a1), some (.inl a2), some (.inl a3), some (.inl a4), some (.inl a5), some (.inl (σ.2 541 0 (a2 - 1))), some (.inl 0), some (.inl 0)] [] σ (0, 0)) ∧ (¬ a4 = σ.2 541 0 (a2 - 1) → X 216 [some (.inr (some (4, 0))), some (.inl a1), some (.inl a2), some (.inl a3), some (.inl a4), some (.inl a5), some (.inl (σ.2 541 0 (a2 - 1))), some (.inl ((σ.2 541 0 (a2 - 1)) + 1)), o8] [] σ (0, 0)))) ∧ (¬ σ.2 541 0 (a2 - 1) ≤ a4 → Rt (some (.inl 0)) σ))) ∧ (¬ (σ.2 510 0 a3) - (σ.2 510 0 (σ.2 540 0 0)) ≤ σ.2 516 0 a1 → Rt (some (.inl 0)) σ))) ∧ (¬ σ.2 512 0 ((4 * (σ.2 540 0 0)) + (σ.2 518 0 a1)) = σ.2 512 0 ((4 * a3) + (σ.2 518 0 a1)) → Rt (some (.inl 0)) σ))))))))) : X 28 [some (.inr (some (4, 0))), some (.inl a1), some (.inl a2), some (.inl a3), some (.inl a4), some (.inl a5), o6, o7, o8] [.inl s0] σ (0, 0) := by
  refine ru_ok hX (fun hok => ?_)
  replace h := h hok
  obtain ⟨k1, h⟩ := h
  refine ru_if_ne (tgt := 33) hX dX4_may_28 (by decide) k1 (fun q => ?_) (fun q => ?_)
  · have q2 := q
    replace h := h.2 q2
    refine ru_iload_n hX dX4_may_33 rfl (fun _ => ?_)
    obtain ⟨k3, h⟩ := h
    refine ru_if_ne (tgt := 48) hX dX4_may_34 (by decide) k3 (fun q => ?_) (fun q => ?_)
    · have q4 := q
      replace h := h.2 q4
      refine ru_aload_n hX dX4_may_48 rfl (fun _ => ?_)
      refine ru_get (v := .inr (some (518, 0))) hX dX4_may_49 rfl ⟨by decide, by decide⟩ rfl (fun _ => ?_)
      refine ru_iload_n hX dX4_may_52 rfl (fun _ => ?_)
      obtain ⟨k5, h⟩ := h
      refine ru_iaload hX dX4_may_53 ⟨by decide, by decide⟩ rfl k5 (fun _ => ?_)
      refine ru_if_lt (tgt := 97) hX dX4_may_54 (by decide) (hok.2 _ _ _ (by decide) (by decide) (by decide) (by decide)) (fun q => ?_) (fun q => ?_)
      · have q6 := q
        replace h := h.1 q6
        refine ru_aload_n hX dX4_may_97 rfl (fun _ => ?_)
        refine ru_get (v := .inr (some (510, 0))) hX dX4_may_98 rfl ⟨by decide, by decide⟩ rfl (fun _ => ?_)
        refine ru_iload_n hX dX4_may_101 rfl (fun _ => ?_)
        obtain ⟨k7, h⟩ := h
        refine ru_iaload hX dX4_may_102 ⟨by decide, by decide⟩ rfl k7 (fun _ => ?_)
        refine ru_aload_n hX dX4_may_103 rfl (fun _ => ?_)
        refine ru_get (v := .inr (some (510, 0))) hX dX4_may_104 rfl ⟨by decide, by decide⟩ rfl (fun _ => ?_)
        refine ru_aload_n hX dX4_may_107 rfl (fun _ => ?_)
        refine ru_get (v := .inr (some (540, 0))) hX dX4_may_108 rfl ⟨by decide, by decide⟩ rfl (fun _ => ?_)
        refine ru_iconst hX dX4_may_111 (fun _ => ?_)
        refine ru_iaload hX dX4_may_112 ⟨by decide, by decide⟩ rfl ⟨by decide, by decide⟩ (fun _ => ?_)
        obtain ⟨k8, h⟩ := h
        refine ru_iaload hX dX4_may_113 ⟨by decide, by decide⟩ rfl k8 (fun _ => ?_)
        refine ru_isub hX dX4_may_114 (fun _ => ?_)
        refine ru_aload_n hX dX4_may_115 rfl (fun _ => ?_)
        refine ru_get (v := .inr (some (516, 0))) hX dX4_may_116 rfl ⟨by decide, by decide⟩ rfl (fun _ => ?_)
        refine ru_iload_n hX dX4_may_119 rfl (fun _ => ?_)
        refine ru_iaload hX dX4_may_120 ⟨by decide, by decide⟩ rfl k5 (fun _ => ?_)
        obtain ⟨k9, h⟩ := h
        refine ru_icmp_le (tgt := 126) hX dX4_may_121 (by decide) k9 (hok.2 _ _ _ (by decide) (by decide) (by decide) (by decide)) (fun q => ?_) (fun q => ?_)
        · have q10 := q
          replace h := h.1 q10
          refine ru_aload_n hX dX4_may_126 rfl (fun _ => ?_)
          refine ru_get (v := .inr (some (541, 0))) hX dX4_may_127 rfl ⟨by decide, by decide⟩ rfl (fun _ => ?_)
          refine ru_iload_n hX dX4_may_130 rfl (fun _ => ?_)
          refine ru_iconst hX dX4_may_131 (fun _ => ?_)
          refine ru_isub hX dX4_may_132 (fun _ => ?_)
          obtain ⟨k11, h⟩ := h
          refine ru_iaload hX dX4_may_133 ⟨by decide, by decide⟩ rfl k11 (fun _ => ?_)
          refine ru_istore (ls1 := [some (.inr (some (4, 0))), some (.inl a1), some (.inl a2), some (.inl a3), some (.inl a4), some (.inl a5), some (.inl (σ.2 541 0 (a2 - 1))), o7, o8]) hX dX4_may_134 (Nat.le_of_ble_eq_true rfl) rfl (fun _ => ?_)
          refine ru_iload hX dX4_may_136 rfl (fun _ => ?_)
          refine ru_iload hX dX4_may_138 rfl (fun _ => ?_)
          obtain ⟨k12, h⟩ := h
          refine ru_icmp_ge (tgt := 145) hX dX4_may_140 (by decide) k12 (hok.2 _ _ _ (by decide) (by decide) (by decide) (by decide)) (fun q => ?_) (fun q => ?_)
          · have q13 := q
            replace h := h.1 q13
            refine ru_iload hX dX4_may_145 rfl (fun _ => ?_)
            refine ru_iload hX dX4_may_147 rfl (fun _ => ?_)
            refine ru_icmp_ne (tgt := 210) hX dX4_may_149 (by decide) k12 (hok.2 _ _ _ (by decide) (by decide) (by decide) (by decide)) (fun q => ?_) (fun q => ?_)
            · have q14 := q
              replace h := h.2 q14
              refine ru_iload hX dX4_may_210 rfl (fun _ => ?_)
              refine ru_iconst hX dX4_may_212 (fun _ => ?_)
              refine ru_iadd hX dX4_may_213 (fun _ => ?_)
              refine ru_istore (ls1 := [some (.inr (some (4, 0))), some (.inl a1), some (.inl a2), some (.inl a3), some (.inl a4), some (.inl a5), some (.inl (σ.2 541 0 (a2 - 1))), some (.inl ((σ.2 541 0 (a2 - 1)) + 1)), o8]) hX dX4_may_214 (Nat.le_of_ble_eq_true rfl) rfl (fun _ => ?_)
              exact h
            · have q15 := q
              replace h := h.1 q15
              refine ru_iconst hX dX4_may_152 (fun _ => ?_)
              refine ru_istore (ls1 := [some (.inr (some (4, 0))), some (.inl a1), some (.inl a2), some (.inl a3), some (.inl a4), some (.inl a5), some (.inl (σ.2 541 0 (a2 - 1))), some (.inl 0), o8]) hX dX4_may_153 (Nat.le_of_ble_eq_true rfl) rfl (fun _ => ?_)
              refine ru_iconst hX dX4_may_155 (fun _ => ?_)
              refine ru_istore (ls1 := [some (.inr (some (4, 0))), some (.inl a1), some (.inl a2), some (.inl a3), some (.inl a4), some (.inl a5), some (.inl (σ.2 541 0 (a2 - 1))), some (.inl 0), some (.inl 0)]) hX dX4_may_156 (Nat.le_of_ble_eq_true rfl) rfl (fun _ => ?_)
              exact h
          · have q16 := q
            replace h := h.2 q16
            refine ru_iconst hX dX4_may_143 (fun _ => ?_)
            exact ru_ireturn hX dX4_may_144 (Or.inr ⟨rfl, by decide⟩) ⟨Nat.zero_le _, Nat.zero_le _⟩ (fun _ => h)
        · have q17 := q
          replace h := h.2 q17
          refine ru_iconst hX dX4_may_124 (fun _ => ?_)
          exact ru_ireturn hX dX4_may_125 (Or.inr ⟨rfl, by decide⟩) ⟨Nat.zero_le _, Nat.zero_le _⟩ (fun _ => h)
      · have q18 := q
        replace h := h.2 q18
        refine ru_aload_n hX dX4_may_57 rfl (fun _ => ?_)
        refine ru_get (v := .inr (some (512, 0))) hX dX4_may_58 rfl ⟨by decide, by decide⟩ rfl (fun _ => ?_)
        refine ru_iconst hX dX4_may_61 (fun _ => ?_)
        refine ru_aload_n hX dX4_may_62 rfl (fun _ => ?_)
        refine ru_get (v := .inr (some (540, 0))) hX dX4_may_63 rfl ⟨by decide, by decide⟩ rfl (fun _ => ?_)
        refine ru_iconst hX dX4_may_66 (fun _ => ?_)
        refine ru_iaload hX dX4_may_67 ⟨by decide, by decide⟩ rfl ⟨by decide, by decide⟩ (fun _ => ?_)
        refine ru_imul hX dX4_may_68 (fun _ => ?_)
        refine ru_aload_n hX dX4_may_69 rfl (fun _ => ?_)
        refine ru_get (v := .inr (some (518, 0))) hX dX4_may_70 rfl ⟨by decide, by decide⟩ rfl (fun _ => ?_)
        refine ru_iload_n hX dX4_may_73 rfl (fun _ => ?_)
        refine ru_iaload hX dX4_may_74 ⟨by decide, by decide⟩ rfl k5 (fun _ => ?_)
        refine ru_iadd hX dX4_may_75 (fun _ => ?_)
        obtain ⟨k19, h⟩ := h
        refine ru_iaload hX dX4_may_76 ⟨by decide, by decide⟩ rfl k19 (fun _ => ?_)
        refine ru_aload_n hX dX4_may_77 rfl (fun _ => ?_)
        refine ru_get (v := .inr (some (512, 0))) hX dX4_may_78 rfl ⟨by decide, by decide⟩ rfl (fun _ => ?_)
        refine ru_iconst hX dX4_may_81 (fun _ => ?_)
        refine ru_iload_n hX dX4_may_82 rfl (fun _ => ?_)
        refine ru_imul hX dX4_may_83 (fun _ => ?_)
        refine ru_aload_n hX dX4_may_84 rfl (fun _ => ?_)
        refine ru_get (v := .inr (some (518, 0))) hX dX4_may_85 rfl ⟨by decide, by decide⟩ rfl (fun _ => ?_)
        refine ru_iload_n hX dX4_may_88 rfl (fun _ => ?_)
        refine ru_iaload hX dX4_may_89 ⟨by decide, by decide⟩ rfl k5 (fun _ => ?_)
        refine ru_iadd hX dX4_may_90 (fun _ => ?_)
        obtain ⟨k20, h⟩ := h
        refine ru_iaload hX dX4_may_91 ⟨by decide, by decide⟩ rfl k20 (fun _ => ?_)
        refine ru_icmp_eq (tgt := 97) hX dX4_may_92 (by decide) (hok.2 _ _ _ (by decide) (by decide) (by decide) (by decide)) (hok.2 _ _ _ (by decide) (by decide) (by decide) (by decide)) (fun q => ?_) (fun q => ?_)
        · have q21 := q
          replace h := h.1 q21
          refine ru_aload_n hX dX4_may_97 rfl (fun _ => ?_)
          refine ru_get (v := .inr (some (510, 0))) hX dX4_may_98 rfl ⟨by decide, by decide⟩ rfl (fun _ => ?_)
          refine ru_iload_n hX dX4_may_101 rfl (fun _ => ?_)
          obtain ⟨k22, h⟩ := h
          refine ru_iaload hX dX4_may_102 ⟨by decide, by decide⟩ rfl k22 (fun _ => ?_)
          refine ru_aload_n hX dX4_may_103 rfl (fun _ => ?_)
          refine ru_get (v := .inr (some (510, 0))) hX dX4_may_104 rfl ⟨by decide, by decide⟩ rfl (fun _ => ?_)
          refine ru_aload_n hX dX4_may_107 rfl (fun _ => ?_)
          refine ru_get (v := .inr (some (540, 0))) hX dX4_may_108 rfl ⟨by decide, by decide⟩ rfl (fun _ => ?_)
          refine ru_iconst hX dX4_may_111 (fun _ => ?_)
          refine ru_iaload hX dX4_may_112 ⟨by decide, by decide⟩ rfl ⟨by decide, by decide⟩ (fun _ => ?_)
          obtain ⟨k23, h⟩ := h
          refine ru_iaload hX dX4_may_113 ⟨by decide, by decide⟩ rfl k23 (fun _ => ?_)
          refine ru_isub hX dX4_may_114 (fun _ => ?_)
          refine ru_aload_n hX dX4_may_115 rfl (fun _ => ?_)
          refine ru_get (v := .inr (some (516, 0))) hX dX4_may_116 rfl ⟨by decide, by decide⟩ rfl (fun _ => ?_)
          refine ru_iload_n hX dX4_may_119 rfl (fun _ => ?_)
          refine ru_iaload hX dX4_may_120 ⟨by decide, by decide⟩ rfl k5 (fun _ => ?_)
          obtain ⟨k24, h⟩ := h
          refine ru_icmp_le (tgt := 126) hX dX4_may_121 (by decide) k24 (hok.2 _ _ _ (by decide) (by decide) (by decide) (by decide)) (fun q => ?_) (fun q => ?_)
          · have q25 := q
            replace h := h.1 q25
            refine ru_aload_n hX dX4_may_126 rfl (fun _ => ?_)
            refine ru_get (v := .inr (some (541, 0))) hX dX4_may_127 rfl ⟨by decide, by decide⟩ rfl (fun _ => ?_)
            refine ru_iload_n hX dX4_may_130 rfl (fun _ => ?_)
            refine ru_iconst hX dX4_may_131 (fun _ => ?_)
            refine ru_isub hX dX4_may_132 (fun _ => ?_)
            obtain ⟨k26, h⟩ := h
            refine ru_iaload hX dX4_may_133 ⟨by decide, by decide⟩ rfl k26 (fun _ => ?_)
            refine ru_istore (ls1 := [some (.inr (some (4, 0))), some (.inl a1), some (.inl a2), some (.inl a3), some (.inl a4), some (.inl a5), some (.inl (σ.2 541 0 (a2 - 1))), o7, o8]) hX dX4_may_134 (Nat.le_of_ble_eq_true rfl) rfl (fun _ => ?_)
            refine ru_iload hX dX4_may_136 rfl (fun _ => ?_)
            refine ru_iload hX dX4_may_138 rfl (fun _ => ?_)
            obtain ⟨k27, h⟩ := h
            refine ru_icmp_ge (tgt := 145) hX dX4_may_140 (by decide) k27 (hok.2 _ _ _ (by decide) (by decide) (by decide) (by decide)) (fun q => ?_) (fun q => ?_)
            · have q28 := q
              replace h := h.1 q28
              refine ru_iload hX dX4_may_145 rfl (fun _ => ?_)
              refine ru_iload hX dX4_may_147 rfl (fun _ => ?_)
              refine ru_icmp_ne (tgt := 210) hX dX4_may_149 (by decide) k27 (hok.2 _ _ _ (by decide) (by decide) (by decide) (by decide)) (fun q => ?_) (fun q => ?_)
              · have q29 := q
                replace h := h.2 q29
                refine ru_iload hX dX4_may_210 rfl (fun _ => ?_)
                refine ru_iconst hX dX4_may_212 (fun _ => ?_)
                refine ru_iadd hX dX4_may_213 (fun _ => ?_)
                refine ru_istore (ls1 := [some (.inr (some (4, 0))), some (.inl a1), some (.inl a2), some (.inl a3), some (.inl a4), some (.inl a5), some (.inl (σ.2 541 0 (a2 - 1))), some (.inl ((σ.2 541 0 (a2 - 1)) + 1)), o8]) hX dX4_may_214 (Nat.le_of_ble_eq_true rfl) rfl (fun _ => ?_)
                exact h
              · have q30 := q
                replace h := h.1 q30
                refine ru_iconst hX dX4_may_152 (fun _ => ?_)
                refine ru_istore (ls1 := [some (.inr (some (4, 0))), some (.inl a1), some (.inl a2), some (.inl a3), some (.inl a4), some (.inl a5), some (.inl (σ.2 541 0 (a2 - 1))), some (.inl 0), o8]) hX dX4_may_153 (Nat.le_of_ble_eq_true rfl) rfl (fun _ => ?_)
                refine ru_iconst hX dX4_may_155 (fun _ => ?_)
                refine ru_istore (ls1 := [some (.inr (some (4, 0))), some (.inl a1), some (.inl a2), some (.inl a3), some (.inl a4), some (.inl a5), some (.inl (σ.2 541 0 (a2 - 1))), some (.inl 0), some (.inl 0)]) hX dX4_may_156 (Nat.le_of_ble_eq_true rfl) rfl (fun _ => ?_)
                exact h
            · have q31 := q
              replace h := h.2 q31
              refine ru_iconst hX dX4_may_143 (fun _ => ?_)
              exact ru_ireturn hX dX4_may_144 (Or.inr ⟨rfl, by decide⟩) ⟨Nat.zero_le _, Nat.zero_le _⟩ (fun _ => h)
          · have q32 := q
            replace h := h.2 q32
            refine ru_iconst hX dX4_may_124 (fun _ => ?_)
            exact ru_ireturn hX dX4_may_125 (Or.inr ⟨rfl, by decide⟩) ⟨Nat.zero_le _, Nat.zero_le _⟩ (fun _ => h)
        · have q33 := q
          replace h := h.2 q33
          refine ru_iconst hX dX4_may_95 (fun _ => ?_)
          exact ru_ireturn hX dX4_may_96 (Or.inr ⟨rfl, by decide⟩) ⟨Nat.zero_le _, Nat.zero_le _⟩ (fun _ => h)
    · have q34 := q
      replace h := h.1 q34
      refine ru_iload hX dX4_may_37 rfl (fun _ => ?_)
      obtain ⟨k35, h⟩ := h
      refine ru_if_ne (tgt := 46) hX dX4_may_39 (by decide) k35 (fun q => ?_) (fun q => ?_)
      · have q36 := q
        replace h := h.2 q36
        refine ru_iconst hX dX4_may_46 (fun _ => ?_)
        exact ru_ireturn hX dX4_may_47 (Or.inr ⟨rfl, by decide⟩) ⟨Nat.zero_le _, Nat.zero_le _⟩ (fun _ => h)
      · have q37 := q
        replace h := h.1 q37
        refine ru_iconst hX dX4_may_42 (fun _ => ?_)
        refine ru_goto (tgt := 47) hX dX4_may_43 (by decide) ?_
        exact ru_ireturn hX dX4_may_47 (Or.inr ⟨rfl, by decide⟩) ⟨Nat.zero_le _, Nat.zero_le _⟩ (fun _ => h)
  · have q38 := q
    replace h := h.1 q38
    refine ru_iconst hX dX4_may_31 (fun _ => ?_)
    exact ru_ireturn hX dX4_may_32 (Or.inr ⟨rfl, by decide⟩) ⟨Nat.zero_le _, Nat.zero_le _⟩ (fun _ => h)
theorem bX4_may_158 {cs ss : Nat → Option (Nat × eh_T)} {lim : Nat × Nat} {Rt : Option eh_V → eh_S → Prop} {X : eh_X} (hX : eh_Ru eh_nX eh_fl4 eh_kn4 cs ss lim Rt 1 cX4_may X)  {σ : eh_S}  {o1 : Option eh_V} {a2 : Int} {o3 : Option eh_V} {o4 : Option eh_V} {a5 : Int} {a6 : Int} {a7 : Int} {a8 : Int}  (h : eh_ok σ → (-2147483648 ≤ a8 ∧ a8 < 2147483648) ∧ (-2147483648 ≤ a2 ∧ a2 < 2147483648) ∧ ((a2 ≤ a8 → (-2147483648 ≤ a5 ∧ a5 < 2147483648) ∧ ((a5 = 1 → (-2147483648 ≤ a7 ∧ a7 < 2147483648) ∧ ((4 ≤ a7 → Rt (some (.inl 0)) σ) ∧ (¬ 4 ≤ a7 → Rt (some (.inl 1)) σ))) ∧ (¬ a5 = 1 → Rt (some (.inl 0)) σ))) ∧ (¬ a2 ≤ a8 → (0 ≤ a8 ∧ a8 < 25) ∧ (-2147483648 ≤ a6 ∧ a6 < 2147483648) ∧ ((σ.2 541 0 a8 = a6 → X 158 [some (.inr (some (4, 0))), o1, some (.inl a2), o3, o4, some (.inl a5), some (.inl a6), some (.inl (a7 + 1)), some (.inl (a8 + 1))] [] σ (0, 0)) ∧ (¬ σ.2 541 0 a8 = a6 → X 158 [some (.inr (some (4, 0))), o1, some (.inl a2), o3, o4, some (.inl a5), some (.inl a6), some (.inl (a7 + 0)), some (.inl (a8 + 1))] [] σ (0, 0)))))) : X 158 [some (.inr (some (4, 0))), o1, some (.inl a2), o3, o4, some (.inl a5), some (.inl a6), some (.inl a7), some (.inl a8)] [] σ (0, 0) := by
  refine ru_ok hX (fun hok => ?_)
  replace h := h hok
  refine ru_iload hX dX4_may_158 rfl (fun _ => ?_)
  refine ru_iload_n hX dX4_may_160 rfl (fun _ => ?_)
  obtain ⟨k1, h⟩ := h
  obtain ⟨k2, h⟩ := h
  refine ru_icmp_ge (tgt := 192) hX dX4_may_161 (by decide) k1 k2 (fun q => ?_) (fun q => ?_)
  · have q3 := q
    replace h := h.1 q3
    refine ru_iload hX dX4_may_192 rfl (fun _ => ?_)
    refine ru_iconst hX dX4_may_194 (fun _ => ?_)
    obtain ⟨k4, h⟩ := h
    refine ru_icmp_ne (tgt := 208) hX dX4_may_195 (by decide) k4 (by unfold eh_r; decide) (fun q => ?_) (fun q => ?_)
    · have q5 := q
      replace h := h.2 q5
      refine ru_iconst hX dX4_may_208 (fun _ => ?_)
      exact ru_ireturn hX dX4_may_209 (Or.inr ⟨rfl, by decide⟩) ⟨Nat.zero_le _, Nat.zero_le _⟩ (fun _ => h)
    · have q6 := q
      replace h := h.1 q6
      refine ru_iload hX dX4_may_198 rfl (fun _ => ?_)
      refine ru_iconst hX dX4_may_200 (fun _ => ?_)
      obtain ⟨k7, h⟩ := h
      refine ru_icmp_ge (tgt := 208) hX dX4_may_201 (by decide) k7 (by unfold eh_r; decide) (fun q => ?_) (fun q => ?_)
      · have q8 := q
        replace h := h.1 q8
        refine ru_iconst hX dX4_may_208 (fun _ => ?_)
        exact ru_ireturn hX dX4_may_209 (Or.inr ⟨rfl, by decide⟩) ⟨Nat.zero_le _, Nat.zero_le _⟩ (fun _ => h)
      · have q9 := q
        replace h := h.2 q9
        refine ru_iconst hX dX4_may_204 (fun _ => ?_)
        refine ru_goto (tgt := 209) hX dX4_may_205 (by decide) ?_
        exact ru_ireturn hX dX4_may_209 (Or.inr ⟨rfl, by decide⟩) ⟨Nat.zero_le _, Nat.zero_le _⟩ (fun _ => h)
  · have q10 := q
    replace h := h.2 q10
    refine ru_iload hX dX4_may_164 rfl (fun _ => ?_)
    refine ru_aload_n hX dX4_may_166 rfl (fun _ => ?_)
    refine ru_get (v := .inr (some (541, 0))) hX dX4_may_167 rfl ⟨by decide, by decide⟩ rfl (fun _ => ?_)
    refine ru_iload hX dX4_may_170 rfl (fun _ => ?_)
    obtain ⟨k11, h⟩ := h
    refine ru_iaload hX dX4_may_172 ⟨by decide, by decide⟩ rfl k11 (fun _ => ?_)
    refine ru_iload hX dX4_may_173 rfl (fun _ => ?_)
    obtain ⟨k12, h⟩ := h
    refine ru_icmp_ne (tgt := 182) hX dX4_may_175 (by decide) (hok.2 _ _ _ (by decide) (by decide) (by decide) (by decide)) k12 (fun q => ?_) (fun q => ?_)
    · have q13 := q
      replace h := h.2 q13
      refine ru_iconst hX dX4_may_182 (fun _ => ?_)
      refine ru_iadd hX dX4_may_183 (fun _ => ?_)
      refine ru_istore (ls1 := [some (.inr (some (4, 0))), o1, some (.inl a2), o3, o4, some (.inl a5), some (.inl a6), some (.inl (a7 + 0)), some (.inl a8)]) hX dX4_may_184 (Nat.le_of_ble_eq_true rfl) rfl (fun _ => ?_)
      refine ru_iinc (ls1 := [some (.inr (some (4, 0))), o1, some (.inl a2), o3, o4, some (.inl a5), some (.inl a6), some (.inl (a7 + 0)), some (.inl (a8 + 1))]) hX dX4_may_186 rfl rfl (fun _ => ?_)
      refine ru_goto (tgt := 158) hX dX4_may_189 (by decide) ?_
      exact h
    · have q14 := q
      replace h := h.1 q14
      refine ru_iconst hX dX4_may_178 (fun _ => ?_)
      refine ru_goto (tgt := 183) hX dX4_may_179 (by decide) ?_
      refine ru_iadd hX dX4_may_183 (fun _ => ?_)
      refine ru_istore (ls1 := [some (.inr (some (4, 0))), o1, some (.inl a2), o3, o4, some (.inl a5), some (.inl a6), some (.inl (a7 + 1)), some (.inl a8)]) hX dX4_may_184 (Nat.le_of_ble_eq_true rfl) rfl (fun _ => ?_)
      refine ru_iinc (ls1 := [some (.inr (some (4, 0))), o1, some (.inl a2), o3, o4, some (.inl a5), some (.inl a6), some (.inl (a7 + 1)), some (.inl (a8 + 1))]) hX dX4_may_186 rfl rfl (fun _ => ?_)
      refine ru_goto (tgt := 158) hX dX4_may_189 (by decide) ?_
      exact h
theorem bX4_may_216 {cs ss : Nat → Option (Nat × eh_T)} {lim : Nat × Nat} {Rt : Option eh_V → eh_S → Prop} {X : eh_X} (hX : eh_Ru eh_nX eh_fl4 eh_kn4 cs ss lim Rt 1 cX4_may X) {T140 : eh_T} (hc140 : ss 140 = some (1, T140)) {T246 : eh_T} (hc246 : cs 246 = some (5, T246)) {σ : eh_S}  {a1 : Int} {a2 : Int} {a3 : Int} {a4 : Int} {o5 : Option eh_V} {o6 : Option eh_V} {a7 : Int} {o8 : Option eh_V}  (h : eh_ok σ → (-2147483648 ≤ a7 ∧ a7 < 2147483648) ∧ (-2147483648 ≤ a4 ∧ a4 < 2147483648) ∧ ((a4 ≤ a7 → (0 ≤ ((6 * a1) + a4) - 1 ∧ ((6 * a1) + a4) - 1 < 48) ∧ ((σ.2 524 0 (((6 * a1) + a4) - 1) = 3 → (0 ≤ a2 - 1 ∧ a2 - 1 < 25) ∧ T246 [.inr (some (4, 0)), .inl a1, .inl (a4 - 1), .inl (σ.2 540 0 (a2 - 1)), .inl a3] σ (0, 0) (fun r σ1 => X 285 [some (.inr (some (4, 0))), some (.inl a1), some (.inl a2), some (.inl a3), some (.inl a4), o5, o6, some (.inl a7), o8] (r.toList ++ []) σ1 (0, 0))) ∧ (¬ σ.2 524 0 (((6 * a1) + a4) - 1) = 3 → Rt (some (.inl 1)) σ))) ∧ (¬ a4 ≤ a7 → (0 ≤ (6 * a1) + a7 ∧ (6 * a1) + a7 < 48) ∧ T140 [.inl (σ.2 524 0 ((6 * a1) + a7))] σ (0, 0) (fun r σ1 => X 238 [some (.inr (some (4, 0))), some (.inl a1), some (.inl a2), some (.inl a3), some (.inl a4), o5, o6, some (.inl a7), o8] (r.toList ++ []) σ1 (0, 0))))) : X 216 [some (.inr (some (4, 0))), some (.inl a1), some (.inl a2), some (.inl a3), some (.inl a4), o5, o6, some (.inl a7), o8] [] σ (0, 0) := by
  refine ru_ok hX (fun hok => ?_)
  replace h := h hok
  refine ru_iload hX dX4_may_216 rfl (fun _ => ?_)
  refine ru_iload hX dX4_may_218 rfl (fun _ => ?_)
  obtain ⟨k1, h⟩ := h
  obtain ⟨k2, h⟩ := h
  refine ru_icmp_ge (tgt := 249) hX dX4_may_220 (by decide) k1 k2 (fun q => ?_) (fun q => ?_)
  · have q3 := q
    replace h := h.1 q3
    refine ru_aload_n hX dX4_may_249 rfl (fun _ => ?_)
    refine ru_get (v := .inr (some (524, 0))) hX dX4_may_250 rfl ⟨by decide, by decide⟩ rfl (fun _ => ?_)
    refine ru_bipush hX dX4_may_253 (by decide) (fun _ => ?_)
    refine ru_iload_n hX dX4_may_255 rfl (fun _ => ?_)
    refine ru_imul hX dX4_may_256 (fun _ => ?_)
    refine ru_iload hX dX4_may_257 rfl (fun _ => ?_)
    refine ru_iadd hX dX4_may_259 (fun _ => ?_)
    refine ru_iconst hX dX4_may_260 (fun _ => ?_)
    refine ru_isub hX dX4_may_261 (fun _ => ?_)
    obtain ⟨k4, h⟩ := h
    refine ru_iaload hX dX4_may_262 ⟨by decide, by decide⟩ rfl k4 (fun _ => ?_)
    refine ru_iconst hX dX4_may_263 (fun _ => ?_)
    refine ru_icmp_ne (tgt := 288) hX dX4_may_264 (by decide) (hok.2 _ _ _ (by decide) (by decide) (by decide) (by decide)) (by unfold eh_r; decide) (fun q => ?_) (fun q => ?_)
    · have q5 := q
      replace h := h.2 q5
      refine ru_iconst hX dX4_may_288 (fun _ => ?_)
      refine ru_goto (tgt := 293) hX dX4_may_289 (by decide) ?_
      exact ru_ireturn hX dX4_may_293 (Or.inr ⟨rfl, by decide⟩) ⟨Nat.zero_le _, Nat.zero_le _⟩ (fun _ => h)
    · have q6 := q
      replace h := h.1 q6
      refine ru_aload_n hX dX4_may_267 rfl (fun _ => ?_)
      refine ru_iload_n hX dX4_may_268 rfl (fun _ => ?_)
      refine ru_iload hX dX4_may_269 rfl (fun _ => ?_)
      refine ru_iconst hX dX4_may_271 (fun _ => ?_)
      refine ru_isub hX dX4_may_272 (fun _ => ?_)
      refine ru_aload_n hX dX4_may_273 rfl (fun _ => ?_)
      refine ru_get (v := .inr (some (540, 0))) hX dX4_may_274 rfl ⟨by decide, by decide⟩ rfl (fun _ => ?_)
      refine ru_iload_n hX dX4_may_277 rfl (fun _ => ?_)
      refine ru_iconst hX dX4_may_278 (fun _ => ?_)
      refine ru_isub hX dX4_may_279 (fun _ => ?_)
      obtain ⟨k7, h⟩ := h
      refine ru_iaload hX dX4_may_280 ⟨by decide, by decide⟩ rfl k7 (fun _ => ?_)
      refine ru_iload_n hX dX4_may_281 rfl (fun _ => ?_)
      exact ru_callV (as := [.inr (some (4, 0)), .inl a1, .inl (a4 - 1), .inl (σ.2 540 0 (a2 - 1)), .inl a3]) (rest := []) hX dX4_may_282 hc246 rfl (Nat.le_of_ble_eq_true rfl) (0, 0) ⟨Nat.zero_le _, Nat.zero_le _⟩ h
  · have q8 := q
    replace h := h.2 q8
    refine ru_aload_n hX dX4_may_223 rfl (fun _ => ?_)
    refine ru_get (v := .inr (some (524, 0))) hX dX4_may_224 rfl ⟨by decide, by decide⟩ rfl (fun _ => ?_)
    refine ru_bipush hX dX4_may_227 (by decide) (fun _ => ?_)
    refine ru_iload_n hX dX4_may_229 rfl (fun _ => ?_)
    refine ru_imul hX dX4_may_230 (fun _ => ?_)
    refine ru_iload hX dX4_may_231 rfl (fun _ => ?_)
    refine ru_iadd hX dX4_may_233 (fun _ => ?_)
    obtain ⟨k9, h⟩ := h
    refine ru_iaload hX dX4_may_234 ⟨by decide, by decide⟩ rfl k9 (fun _ => ?_)
    exact ru_callS (as := [.inl (σ.2 524 0 ((6 * a1) + a7))]) (rest := []) hX dX4_may_235 hc140 rfl (Nat.le_of_ble_eq_true rfl) (0, 0) ⟨Nat.zero_le _, Nat.zero_le _⟩ h
theorem bX4_may_238 {cs ss : Nat → Option (Nat × eh_T)} {lim : Nat × Nat} {Rt : Option eh_V → eh_S → Prop} {X : eh_X} (hX : eh_Ru eh_nX eh_fl4 eh_kn4 cs ss lim Rt 1 cX4_may X)  {σ : eh_S}  {a1 : Int} {a2 : Int} {a3 : Int} {a4 : Int} {o5 : Option eh_V} {o6 : Option eh_V} {a7 : Int} {o8 : Option eh_V} {s0 : Int}  (h : eh_ok σ → (-2147483648 ≤ s0 ∧ s0 < 2147483648) ∧ ((s0 = 0 → X 216 [some (.inr (some (4, 0))), some (.inl a1), some (.inl a2), some (.inl a3), some (.inl a4), o5, o6, some (.inl (a7 + 1)), o8] [] σ (0, 0)) ∧ (¬ s0 = 0 → Rt (some (.inl 0)) σ))) : X 238 [some (.inr (some (4, 0))), some (.inl a1), some (.inl a2), some (.inl a3), some (.inl a4), o5, o6, some (.inl a7), o8] [.inl s0] σ (0, 0) := by
  refine ru_ok hX (fun hok => ?_)
  replace h := h hok
  obtain ⟨k1, h⟩ := h
  refine ru_if_eq (tgt := 243) hX dX4_may_238 (by decide) k1 (fun q => ?_) (fun q => ?_)
  · have q2 := q
    replace h := h.1 q2
    refine ru_iinc (ls1 := [some (.inr (some (4, 0))), some (.inl a1), some (.inl a2), some (.inl a3), some (.inl a4), o5, o6, some (.inl (a7 + 1)), o8]) hX dX4_may_243 rfl rfl (fun _ => ?_)
    refine ru_goto (tgt := 216) hX dX4_may_246 (by decide) ?_
    exact h
  · have q3 := q
    replace h := h.2 q3
    refine ru_iconst hX dX4_may_241 (fun _ => ?_)
    exact ru_ireturn hX dX4_may_242 (Or.inr ⟨rfl, by decide⟩) ⟨Nat.zero_le _, Nat.zero_le _⟩ (fun _ => h)
theorem bX4_may_285 {cs ss : Nat → Option (Nat × eh_T)} {lim : Nat × Nat} {Rt : Option eh_V → eh_S → Prop} {X : eh_X} (hX : eh_Ru eh_nX eh_fl4 eh_kn4 cs ss lim Rt 1 cX4_may X)  {σ : eh_S}  {o0 : Option eh_V} {o1 : Option eh_V} {o2 : Option eh_V} {o3 : Option eh_V} {o4 : Option eh_V} {o5 : Option eh_V} {o6 : Option eh_V} {o7 : Option eh_V} {o8 : Option eh_V} {s0 : Int}  (h : eh_ok σ → (-2147483648 ≤ s0 ∧ s0 < 2147483648) ∧ ((s0 = 0 → Rt (some (.inl 1)) σ) ∧ (¬ s0 = 0 → Rt (some (.inl 0)) σ))) : X 285 [o0, o1, o2, o3, o4, o5, o6, o7, o8] [.inl s0] σ (0, 0) := by
  refine ru_ok hX (fun hok => ?_)
  replace h := h hok
  obtain ⟨k1, h⟩ := h
  refine ru_if_ne (tgt := 292) hX dX4_may_285 (by decide) k1 (fun q => ?_) (fun q => ?_)
  · have q2 := q
    replace h := h.2 q2
    refine ru_iconst hX dX4_may_292 (fun _ => ?_)
    exact ru_ireturn hX dX4_may_293 (Or.inr ⟨rfl, by decide⟩) ⟨Nat.zero_le _, Nat.zero_le _⟩ (fun _ => h)
  · have q3 := q
    replace h := h.1 q3
    refine ru_iconst hX dX4_may_288 (fun _ => ?_)
    refine ru_goto (tgt := 293) hX dX4_may_289 (by decide) ?_
    exact ru_ireturn hX dX4_may_293 (Or.inr ⟨rfl, by decide⟩) ⟨Nat.zero_le _, Nat.zero_le _⟩ (fun _ => h)
theorem bX4_isBroken_0 {cs ss : Nat → Option (Nat × eh_T)} {lim : Nat × Nat} {Rt : Option eh_V → eh_S → Prop} {X : eh_X} (hX : eh_Ru eh_nX eh_fl4 eh_kn4 cs ss lim Rt 1 cX4_isBroken X)  {σ : eh_S}  {a1 : Int} {a2 : Int} {a3 : Int} {a4 : Int} {o5 : Option eh_V} {o6 : Option eh_V}  (h : eh_ok σ → X 5 [some (.inr (some (4, 0))), some (.inl a1), some (.inl a2), some (.inl a3), some (.inl a4), some (.inl (a3 + 1)), o6] [] σ (0, 0)) : X 0 [some (.inr (some (4, 0))), some (.inl a1), some (.inl a2), some (.inl a3), some (.inl a4), o5, o6] [] σ (0, 0) := by
  refine ru_ok hX (fun hok => ?_)
  replace h := h hok
  refine ru_iload_n hX dX4_isBroken_0 rfl (fun _ => ?_)
  refine ru_iconst hX dX4_isBroken_1 (fun _ => ?_)
  refine ru_iadd hX dX4_isBroken_2 (fun _ => ?_)
  refine ru_istore (ls1 := [some (.inr (some (4, 0))), some (.inl a1), some (.inl a2), some (.inl a3), some (.inl a4), some (.inl (a3 + 1)), o6]) hX dX4_isBroken_3 (Nat.le_of_ble_eq_true rfl) rfl (fun _ => ?_)
  exact h
theorem bX4_isBroken_5 {cs ss : Nat → Option (Nat × eh_T)} {lim : Nat × Nat} {Rt : Option eh_V → eh_S → Prop} {X : eh_X} (hX : eh_Ru eh_nX eh_fl4 eh_kn4 cs ss lim Rt 1 cX4_isBroken X) {T173 : eh_T} (hc173 : cs 173 = some (4, T173)) {σ : eh_S}  {a1 : Int} {a2 : Int} {o3 : Option eh_V} {a4 : Int} {a5 : Int} {o6 : Option eh_V}  (h : eh_ok σ → (-2147483648 ≤ a5 ∧ a5 < 2147483648) ∧ (-2147483648 ≤ a4 ∧ a4 < 2147483648) ∧ ((a4 ≤ a5 → Rt (some (.inl 0)) σ) ∧ (¬ a4 ≤ a5 → (0 ≤ a1 ∧ a1 < 8) ∧ ((σ.2 518 0 a1 < 0 → T173 [.inr (some (4, 0)), .inl a1, .inl a2, .inl a5] σ (0, 0) (fun r σ1 => X 80 [some (.inr (some (4, 0))), some (.inl a1), some (.inl a2), o3, some (.inl a4), some (.inl a5), some (.inl 1)] (r.toList ++ []) σ1 (0, 0))) ∧ (¬ σ.2 518 0 a1 < 0 → (0 ≤ (4 * (σ.2 540 0 0)) + (σ.2 518 0 a1) ∧ (4 * (σ.2 540 0 0)) + (σ.2 518 0 a1) < 4000) ∧ (0 ≤ (4 * a5) + (σ.2 518 0 a1) ∧ (4 * a5) + (σ.2 518 0 a1) < 4000) ∧ ((σ.2 512 0 ((4 * (σ.2 540 0 0)) + (σ.2 518 0 a1)) = σ.2 512 0 ((4 * a5) + (σ.2 518 0 a1)) → T173 [.inr (some (4, 0)), .inl a1, .inl a2, .inl a5] σ (0, 0) (fun r σ1 => X 80 [some (.inr (some (4, 0))), some (.inl a1), some (.inl a2), o3, some (.inl a4), some (.inl a5), some (.inl 1)] (r.toList ++ []) σ1 (0, 0))) ∧ (¬ σ.2 512 0 ((4 * (σ.2 540 0 0)) + (σ.2 518 0 a1)) = σ.2 512 0 ((4 * a5) + (σ.2 518 0 a1)) → X 5 [some (.inr (some (4, 0))), some (.inl a1), some (.inl a2), o3, some (.inl a4), some (.inl (a5 + 1)), some (.inl 0)] [] σ (0, 0)))))))) : X 5 [some (.inr (some (4, 0))), some (.inl a1), some (.inl a2), o3, some (.inl a4), some (.inl a5), o6] [] σ (0, 0) := by
  refine ru_ok hX (fun hok => ?_)
  replace h := h hok
  refine ru_iload hX dX4_isBroken_5 rfl (fun _ => ?_)
  refine ru_iload hX dX4_isBroken_7 rfl (fun _ => ?_)
  obtain ⟨k1, h⟩ := h
  obtain ⟨k2, h⟩ := h
  refine ru_icmp_ge (tgt := 91) hX dX4_isBroken_9 (by decide) k1 k2 (fun q => ?_) (fun q => ?_)
  · have q3 := q
    replace h := h.1 q3
    refine ru_iconst hX dX4_isBroken_91 (fun _ => ?_)
    exact ru_ireturn hX dX4_isBroken_92 (Or.inr ⟨rfl, by decide⟩) ⟨Nat.zero_le _, Nat.zero_le _⟩ (fun _ => h)
  · have q4 := q
    replace h := h.2 q4
    refine ru_aload_n hX dX4_isBroken_12 rfl (fun _ => ?_)
    refine ru_get (v := .inr (some (518, 0))) hX dX4_isBroken_13 rfl ⟨by decide, by decide⟩ rfl (fun _ => ?_)
    refine ru_iload_n hX dX4_isBroken_16 rfl (fun _ => ?_)
    obtain ⟨k5, h⟩ := h
    refine ru_iaload hX dX4_isBroken_17 ⟨by decide, by decide⟩ rfl k5 (fun _ => ?_)
    refine ru_if_lt (tgt := 60) hX dX4_isBroken_18 (by decide) (hok.2 _ _ _ (by decide) (by decide) (by decide) (by decide)) (fun q => ?_) (fun q => ?_)
    · have q6 := q
      replace h := h.1 q6
      refine ru_iconst hX dX4_isBroken_60 (fun _ => ?_)
      refine ru_goto (tgt := 65) hX dX4_isBroken_61 (by decide) ?_
      refine ru_istore (ls1 := [some (.inr (some (4, 0))), some (.inl a1), some (.inl a2), o3, some (.inl a4), some (.inl a5), some (.inl 1)]) hX dX4_isBroken_65 (Nat.le_of_ble_eq_true rfl) rfl (fun _ => ?_)
      refine ru_iload hX dX4_isBroken_67 rfl (fun _ => ?_)
      refine ru_if_eq (tgt := 85) hX dX4_isBroken_69 (by decide) (by unfold eh_r; decide) (fun q => ?_) (fun q => ?_)
      · exact absurd q (by decide)
      clear q
      refine ru_aload_n hX dX4_isBroken_72 rfl (fun _ => ?_)
      refine ru_iload_n hX dX4_isBroken_73 rfl (fun _ => ?_)
      refine ru_iload_n hX dX4_isBroken_74 rfl (fun _ => ?_)
      refine ru_iload hX dX4_isBroken_75 rfl (fun _ => ?_)
      exact ru_callV (as := [.inr (some (4, 0)), .inl a1, .inl a2, .inl a5]) (rest := []) hX dX4_isBroken_77 hc173 rfl (Nat.le_of_ble_eq_true rfl) (0, 0) ⟨Nat.zero_le _, Nat.zero_le _⟩ h
    · have q7 := q
      replace h := h.2 q7
      refine ru_aload_n hX dX4_isBroken_21 rfl (fun _ => ?_)
      refine ru_get (v := .inr (some (512, 0))) hX dX4_isBroken_22 rfl ⟨by decide, by decide⟩ rfl (fun _ => ?_)
      refine ru_iconst hX dX4_isBroken_25 (fun _ => ?_)
      refine ru_aload_n hX dX4_isBroken_26 rfl (fun _ => ?_)
      refine ru_get (v := .inr (some (540, 0))) hX dX4_isBroken_27 rfl ⟨by decide, by decide⟩ rfl (fun _ => ?_)
      refine ru_iconst hX dX4_isBroken_30 (fun _ => ?_)
      refine ru_iaload hX dX4_isBroken_31 ⟨by decide, by decide⟩ rfl ⟨by decide, by decide⟩ (fun _ => ?_)
      refine ru_imul hX dX4_isBroken_32 (fun _ => ?_)
      refine ru_aload_n hX dX4_isBroken_33 rfl (fun _ => ?_)
      refine ru_get (v := .inr (some (518, 0))) hX dX4_isBroken_34 rfl ⟨by decide, by decide⟩ rfl (fun _ => ?_)
      refine ru_iload_n hX dX4_isBroken_37 rfl (fun _ => ?_)
      refine ru_iaload hX dX4_isBroken_38 ⟨by decide, by decide⟩ rfl k5 (fun _ => ?_)
      refine ru_iadd hX dX4_isBroken_39 (fun _ => ?_)
      obtain ⟨k8, h⟩ := h
      refine ru_iaload hX dX4_isBroken_40 ⟨by decide, by decide⟩ rfl k8 (fun _ => ?_)
      refine ru_aload_n hX dX4_isBroken_41 rfl (fun _ => ?_)
      refine ru_get (v := .inr (some (512, 0))) hX dX4_isBroken_42 rfl ⟨by decide, by decide⟩ rfl (fun _ => ?_)
      refine ru_iconst hX dX4_isBroken_45 (fun _ => ?_)
      refine ru_iload hX dX4_isBroken_46 rfl (fun _ => ?_)
      refine ru_imul hX dX4_isBroken_48 (fun _ => ?_)
      refine ru_aload_n hX dX4_isBroken_49 rfl (fun _ => ?_)
      refine ru_get (v := .inr (some (518, 0))) hX dX4_isBroken_50 rfl ⟨by decide, by decide⟩ rfl (fun _ => ?_)
      refine ru_iload_n hX dX4_isBroken_53 rfl (fun _ => ?_)
      refine ru_iaload hX dX4_isBroken_54 ⟨by decide, by decide⟩ rfl k5 (fun _ => ?_)
      refine ru_iadd hX dX4_isBroken_55 (fun _ => ?_)
      obtain ⟨k9, h⟩ := h
      refine ru_iaload hX dX4_isBroken_56 ⟨by decide, by decide⟩ rfl k9 (fun _ => ?_)
      refine ru_icmp_ne (tgt := 64) hX dX4_isBroken_57 (by decide) (hok.2 _ _ _ (by decide) (by decide) (by decide) (by decide)) (hok.2 _ _ _ (by decide) (by decide) (by decide) (by decide)) (fun q => ?_) (fun q => ?_)
      · have q10 := q
        replace h := h.2 q10
        refine ru_iconst hX dX4_isBroken_64 (fun _ => ?_)
        refine ru_istore (ls1 := [some (.inr (some (4, 0))), some (.inl a1), some (.inl a2), o3, some (.inl a4), some (.inl a5), some (.inl 0)]) hX dX4_isBroken_65 (Nat.le_of_ble_eq_true rfl) rfl (fun _ => ?_)
        refine ru_iload hX dX4_isBroken_67 rfl (fun _ => ?_)
        refine ru_if_eq (tgt := 85) hX dX4_isBroken_69 (by decide) (by unfold eh_r; decide) (fun q => ?_) (fun q => ?_)
        rotate_left
        · exact absurd q (by decide)
        clear q
        refine ru_iinc (ls1 := [some (.inr (some (4, 0))), some (.inl a1), some (.inl a2), o3, some (.inl a4), some (.inl (a5 + 1)), some (.inl 0)]) hX dX4_isBroken_85 rfl rfl (fun _ => ?_)
        refine ru_goto (tgt := 5) hX dX4_isBroken_88 (by decide) ?_
        exact h
      · have q11 := q
        replace h := h.1 q11
        refine ru_iconst hX dX4_isBroken_60 (fun _ => ?_)
        refine ru_goto (tgt := 65) hX dX4_isBroken_61 (by decide) ?_
        refine ru_istore (ls1 := [some (.inr (some (4, 0))), some (.inl a1), some (.inl a2), o3, some (.inl a4), some (.inl a5), some (.inl 1)]) hX dX4_isBroken_65 (Nat.le_of_ble_eq_true rfl) rfl (fun _ => ?_)
        refine ru_iload hX dX4_isBroken_67 rfl (fun _ => ?_)
        refine ru_if_eq (tgt := 85) hX dX4_isBroken_69 (by decide) (by unfold eh_r; decide) (fun q => ?_) (fun q => ?_)
        · exact absurd q (by decide)
        clear q
        refine ru_aload_n hX dX4_isBroken_72 rfl (fun _ => ?_)
        refine ru_iload_n hX dX4_isBroken_73 rfl (fun _ => ?_)
        refine ru_iload_n hX dX4_isBroken_74 rfl (fun _ => ?_)
        refine ru_iload hX dX4_isBroken_75 rfl (fun _ => ?_)
        exact ru_callV (as := [.inr (some (4, 0)), .inl a1, .inl a2, .inl a5]) (rest := []) hX dX4_isBroken_77 hc173 rfl (Nat.le_of_ble_eq_true rfl) (0, 0) ⟨Nat.zero_le _, Nat.zero_le _⟩ h
theorem bX4_isBroken_80 {cs ss : Nat → Option (Nat × eh_T)} {lim : Nat × Nat} {Rt : Option eh_V → eh_S → Prop} {X : eh_X} (hX : eh_Ru eh_nX eh_fl4 eh_kn4 cs ss lim Rt 1 cX4_isBroken X)  {σ : eh_S}  {a1 : Int} {a2 : Int} {o3 : Option eh_V} {a4 : Int} {a5 : Int} {o6 : Option eh_V} {s0 : Int}  (h : eh_ok σ → (-2147483648 ≤ s0 ∧ s0 < 2147483648) ∧ ((s0 = 0 → X 5 [some (.inr (some (4, 0))), some (.inl a1), some (.inl a2), o3, some (.inl a4), some (.inl (a5 + 1)), o6] [] σ (0, 0)) ∧ (¬ s0 = 0 → Rt (some (.inl 1)) σ))) : X 80 [some (.inr (some (4, 0))), some (.inl a1), some (.inl a2), o3, some (.inl a4), some (.inl a5), o6] [.inl s0] σ (0, 0) := by
  refine ru_ok hX (fun hok => ?_)
  replace h := h hok
  obtain ⟨k1, h⟩ := h
  refine ru_if_eq (tgt := 85) hX dX4_isBroken_80 (by decide) k1 (fun q => ?_) (fun q => ?_)
  · have q2 := q
    replace h := h.1 q2
    refine ru_iinc (ls1 := [some (.inr (some (4, 0))), some (.inl a1), some (.inl a2), o3, some (.inl a4), some (.inl (a5 + 1)), o6]) hX dX4_isBroken_85 rfl rfl (fun _ => ?_)
    refine ru_goto (tgt := 5) hX dX4_isBroken_88 (by decide) ?_
    exact h
  · have q3 := q
    replace h := h.2 q3
    refine ru_iconst hX dX4_isBroken_83 (fun _ => ?_)
    exact ru_ireturn hX dX4_isBroken_84 (Or.inr ⟨rfl, by decide⟩) ⟨Nat.zero_le _, Nat.zero_le _⟩ (fun _ => h)
theorem bX4_count_0 {cs ss : Nat → Option (Nat × eh_T)} {lim : Nat × Nat} {Rt : Option eh_V → eh_S → Prop} {X : eh_X} (hX : eh_Ru eh_nX eh_fl4 eh_kn4 cs ss lim Rt 0 cX4_count X) {T230 : eh_T} (hc230 : cs 230 = some (1, T230)) {σ : eh_S}  {a1 : Int} {o2 : Option eh_V}  (h : eh_ok σ → (-2147483648 ≤ a1 ∧ a1 < 2147483648) ∧ (((a1 < 0 ∨ 5 < a1) → Rt (some (.inl (-1))) σ) ∧ (a1 = 0 → Rt (some (.inl (σ.1 515 0))) σ) ∧ (a1 = 1 → Rt (some (.inl (σ.1 508 0))) σ) ∧ (a1 = 2 → Rt (some (.inl (σ.1 503 0))) σ) ∧ (a1 = 3 → Rt (some (.inl (σ.1 514 0))) σ) ∧ (a1 = 4 → Rt (some (.inl (σ.1 513 0))) σ) ∧ (a1 = 5 → T230 [.inr (some (4, 0))] σ (0, 0) (fun r σ1 => X 69 [some (.inr (some (4, 0))), some (.inl a1), o2] (r.toList ++ []) σ1 (0, 0))))) : X 0 [some (.inr (some (4, 0))), some (.inl a1), o2] [] σ (0, 0) := by
  refine ru_ok hX (fun hok => ?_)
  replace h := h hok
  refine ru_iload_n hX dX4_count_0 rfl (fun _ => ?_)
  obtain ⟨k1, h⟩ := h
  refine ru_tsw (tgt := 95) hX dX4_count_1 (by decide) k1 (fun q => ?_) (fun q1 q2 => ?_)
  · replace h := h.1 q
    refine ru_iconst hX dX4_count_95 (fun _ => ?_)
    exact ru_ireturn hX dX4_count_96 (Or.inl rfl) ⟨Nat.zero_le _, Nat.zero_le _⟩ (fun _ => h)
  · replace h := h.2
    rcases (show a1 = 0 ∨ a1 = 1 ∨ a1 = 2 ∨ a1 = 3 ∨ a1 = 4 ∨ a1 = 5 by omega) with q | q | q | q | q | q
    · refine ⟨39, 40, by rw [q]; rfl, by decide, ?_⟩
      replace h := h.1 q
      refine ru_aload_n hX dX4_count_40 rfl (fun _ => ?_)
      refine ru_get (v := .inl (σ.1 515 0)) hX dX4_count_41 rfl ⟨by decide, by decide⟩ rfl (fun _ => ?_)
      exact ru_ireturn hX dX4_count_44 (Or.inl rfl) ⟨Nat.zero_le _, Nat.zero_le _⟩ (fun _ => h)
    · refine ⟨44, 45, by rw [q]; rfl, by decide, ?_⟩
      replace h := h.2.1 q
      refine ru_aload_n hX dX4_count_45 rfl (fun _ => ?_)
      refine ru_get (v := .inl (σ.1 508 0)) hX dX4_count_46 rfl ⟨by decide, by decide⟩ rfl (fun _ => ?_)
      exact ru_ireturn hX dX4_count_49 (Or.inl rfl) ⟨Nat.zero_le _, Nat.zero_le _⟩ (fun _ => h)
    · refine ⟨49, 50, by rw [q]; rfl, by decide, ?_⟩
      replace h := h.2.2.1 q
      refine ru_aload_n hX dX4_count_50 rfl (fun _ => ?_)
      refine ru_get (v := .inl (σ.1 503 0)) hX dX4_count_51 rfl ⟨by decide, by decide⟩ rfl (fun _ => ?_)
      exact ru_ireturn hX dX4_count_54 (Or.inl rfl) ⟨Nat.zero_le _, Nat.zero_le _⟩ (fun _ => h)
    · refine ⟨54, 55, by rw [q]; rfl, by decide, ?_⟩
      replace h := h.2.2.2.1 q
      refine ru_aload_n hX dX4_count_55 rfl (fun _ => ?_)
      refine ru_get (v := .inl (σ.1 514 0)) hX dX4_count_56 rfl ⟨by decide, by decide⟩ rfl (fun _ => ?_)
      exact ru_ireturn hX dX4_count_59 (Or.inl rfl) ⟨Nat.zero_le _, Nat.zero_le _⟩ (fun _ => h)
    · refine ⟨59, 60, by rw [q]; rfl, by decide, ?_⟩
      replace h := h.2.2.2.2.1 q
      refine ru_aload_n hX dX4_count_60 rfl (fun _ => ?_)
      refine ru_get (v := .inl (σ.1 513 0)) hX dX4_count_61 rfl ⟨by decide, by decide⟩ rfl (fun _ => ?_)
      exact ru_ireturn hX dX4_count_64 (Or.inl rfl) ⟨Nat.zero_le _, Nat.zero_le _⟩ (fun _ => h)
    · refine ⟨64, 65, by rw [q]; rfl, by decide, ?_⟩
      replace h := h.2.2.2.2.2 q
      refine ru_aload_n hX dX4_count_65 rfl (fun _ => ?_)
      exact ru_callV (as := [.inr (some (4, 0))]) (rest := []) hX dX4_count_66 hc230 rfl (Nat.le_of_ble_eq_true rfl) (0, 0) ⟨Nat.zero_le _, Nat.zero_le _⟩ h
theorem bX4_count_69 {cs ss : Nat → Option (Nat × eh_T)} {lim : Nat × Nat} {Rt : Option eh_V → eh_S → Prop} {X : eh_X} (hX : eh_Ru eh_nX eh_fl4 eh_kn4 cs ss lim Rt 0 cX4_count X)  {σ : eh_S}  {o1 : Option eh_V} {o2 : Option eh_V}  (h : eh_ok σ → X 71 [some (.inr (some (4, 0))), o1, some (.inl 0)] [] σ (0, 0)) : X 69 [some (.inr (some (4, 0))), o1, o2] [] σ (0, 0) := by
  refine ru_ok hX (fun hok => ?_)
  replace h := h hok
  refine ru_iconst hX dX4_count_69 (fun _ => ?_)
  refine ru_istore_n (ls1 := [some (.inr (some (4, 0))), o1, some (.inl 0)]) hX dX4_count_70 (Nat.le_of_ble_eq_true rfl) rfl (fun _ => ?_)
  exact h
theorem bX4_count_71 {cs ss : Nat → Option (Nat × eh_T)} {lim : Nat × Nat} {Rt : Option eh_V → eh_S → Prop} {X : eh_X} (hX : eh_Ru eh_nX eh_fl4 eh_kn4 cs ss lim Rt 0 cX4_count X) {T233 : eh_T} (hc233 : cs 233 = some (2, T233)) {T236 : eh_T} (hc236 : cs 236 = some (1, T236)) {σ : eh_S}  {o1 : Option eh_V} {a2 : Int}  (h : eh_ok σ → (-2147483648 ≤ a2 ∧ a2 < 2147483648) ∧ ((σ.1 515 0 ≤ a2 → T236 [.inr (some (4, 0))] σ (0, 0) (fun r σ1 => X 94 [some (.inr (some (4, 0))), o1, some (.inl a2)] (r.toList ++ []) σ1 (0, 0))) ∧ (¬ σ.1 515 0 ≤ a2 → T233 [.inr (some (4, 0)), .inl a2] σ (0, 0) (fun r σ1 => X 84 [some (.inr (some (4, 0))), o1, some (.inl a2)] (r.toList ++ []) σ1 (0, 0))))) : X 71 [some (.inr (some (4, 0))), o1, some (.inl a2)] [] σ (0, 0) := by
  refine ru_ok hX (fun hok => ?_)
  replace h := h hok
  refine ru_iload_n hX dX4_count_71 rfl (fun _ => ?_)
  refine ru_aload_n hX dX4_count_72 rfl (fun _ => ?_)
  refine ru_get (v := .inl (σ.1 515 0)) hX dX4_count_73 rfl ⟨by decide, by decide⟩ rfl (fun _ => ?_)
  obtain ⟨k1, h⟩ := h
  refine ru_icmp_ge (tgt := 90) hX dX4_count_76 (by decide) k1 (hok.1 _ _) (fun q => ?_) (fun q => ?_)
  · have q2 := q
    replace h := h.1 q2
    refine ru_aload_n hX dX4_count_90 rfl (fun _ => ?_)
    exact ru_callV (as := [.inr (some (4, 0))]) (rest := []) hX dX4_count_91 hc236 rfl (Nat.le_of_ble_eq_true rfl) (0, 0) ⟨Nat.zero_le _, Nat.zero_le _⟩ h
  · have q3 := q
    replace h := h.2 q3
    refine ru_aload_n hX dX4_count_79 rfl (fun _ => ?_)
    refine ru_iload_n hX dX4_count_80 rfl (fun _ => ?_)
    exact ru_callV (as := [.inr (some (4, 0)), .inl a2]) (rest := []) hX dX4_count_81 hc233 rfl (Nat.le_of_ble_eq_true rfl) (0, 0) ⟨Nat.zero_le _, Nat.zero_le _⟩ h
theorem bX4_count_84 {cs ss : Nat → Option (Nat × eh_T)} {lim : Nat × Nat} {Rt : Option eh_V → eh_S → Prop} {X : eh_X} (hX : eh_Ru eh_nX eh_fl4 eh_kn4 cs ss lim Rt 0 cX4_count X)  {σ : eh_S}  {o1 : Option eh_V} {a2 : Int}  (h : eh_ok σ → X 71 [some (.inr (some (4, 0))), o1, some (.inl (a2 + 1))] [] σ (0, 0)) : X 84 [some (.inr (some (4, 0))), o1, some (.inl a2)] [] σ (0, 0) := by
  refine ru_ok hX (fun hok => ?_)
  replace h := h hok
  refine ru_iinc (ls1 := [some (.inr (some (4, 0))), o1, some (.inl (a2 + 1))]) hX dX4_count_84 rfl rfl (fun _ => ?_)
  refine ru_goto (tgt := 71) hX dX4_count_87 (by decide) ?_
  exact h
theorem bX4_count_94 {cs ss : Nat → Option (Nat × eh_T)} {lim : Nat × Nat} {Rt : Option eh_V → eh_S → Prop} {X : eh_X} (hX : eh_Ru eh_nX eh_fl4 eh_kn4 cs ss lim Rt 0 cX4_count X)  {σ : eh_S}  {o0 : Option eh_V} {o1 : Option eh_V} {o2 : Option eh_V} {s0 : Int}  (h : eh_ok σ → Rt (some (.inl s0)) σ) : X 94 [o0, o1, o2] [.inl s0] σ (0, 0) := by
  refine ru_ok hX (fun hok => ?_)
  replace h := h hok
  exact ru_ireturn hX dX4_count_94 (Or.inl rfl) ⟨Nat.zero_le _, Nat.zero_le _⟩ (fun _ => h)
theorem bX4_is_0 {cs ss : Nat → Option (Nat × eh_T)} {lim : Nat × Nat} {Rt : Option eh_V → eh_S → Prop} {X : eh_X} (hX : eh_Ru eh_nX eh_fl4 eh_kn4 cs ss lim Rt 0 cX4_is X) {T136 : eh_T} (hc136 : ss 136 = some (1, T136)) {σ : eh_S}  {a1 : Int} {a2 : Int}  (h : eh_ok σ → T136 [.inl a1] σ (0, 0) (fun r σ1 => X 4 [some (.inr (some (4, 0))), some (.inl a1), some (.inl a2)] (r.toList ++ []) σ1 (0, 0))) : X 0 [some (.inr (some (4, 0))), some (.inl a1), some (.inl a2)] [] σ (0, 0) := by
  refine ru_ok hX (fun hok => ?_)
  replace h := h hok
  refine ru_iload_n hX dX4_is_0 rfl (fun _ => ?_)
  exact ru_callS (as := [.inl a1]) (rest := []) hX dX4_is_1 hc136 rfl (Nat.le_of_ble_eq_true rfl) (0, 0) ⟨Nat.zero_le _, Nat.zero_le _⟩ h
theorem bX4_is_4 {cs ss : Nat → Option (Nat × eh_T)} {lim : Nat × Nat} {Rt : Option eh_V → eh_S → Prop} {X : eh_X} (hX : eh_Ru eh_nX eh_fl4 eh_kn4 cs ss lim Rt 0 cX4_is X) {T136 : eh_T} (hc136 : ss 136 = some (1, T136)) {σ : eh_S}  {a1 : Int} {a2 : Int} {s0 : Int}  (h : eh_ok σ → (-2147483648 ≤ s0 ∧ s0 < 2147483648) ∧ ((s0 = 0 → Rt (some (.inl (-1))) σ) ∧ (¬ s0 = 0 → T136 [.inl a2] σ (0, 0) (fun r σ1 => X 11 [some (.inr (some (4, 0))), some (.inl a1), some (.inl a2)] (r.toList ++ []) σ1 (0, 0))))) : X 4 [some (.inr (some (4, 0))), some (.inl a1), some (.inl a2)] [.inl s0] σ (0, 0) := by
  refine ru_ok hX (fun hok => ?_)
  replace h := h hok
  obtain ⟨k1, h⟩ := h
  refine ru_if_eq (tgt := 14) hX dX4_is_4 (by decide) k1 (fun q => ?_) (fun q => ?_)
  · have q2 := q
    replace h := h.1 q2
    refine ru_iconst hX dX4_is_14 (fun _ => ?_)
    refine ru_goto (tgt := 32) hX dX4_is_15 (by decide) ?_
    exact ru_ireturn hX dX4_is_32 (Or.inl rfl) ⟨Nat.zero_le _, Nat.zero_le _⟩ (fun _ => h)
  · have q3 := q
    replace h := h.2 q3
    refine ru_iload_n hX dX4_is_7 rfl (fun _ => ?_)
    exact ru_callS (as := [.inl a2]) (rest := []) hX dX4_is_8 hc136 rfl (Nat.le_of_ble_eq_true rfl) (0, 0) ⟨Nat.zero_le _, Nat.zero_le _⟩ h
theorem bX4_is_11 {cs ss : Nat → Option (Nat × eh_T)} {lim : Nat × Nat} {Rt : Option eh_V → eh_S → Prop} {X : eh_X} (hX : eh_Ru eh_nX eh_fl4 eh_kn4 cs ss lim Rt 0 cX4_is X) {T157 : eh_T} (hc157 : cs 157 = some (3, T157)) {σ : eh_S}  {a1 : Int} {a2 : Int} {s0 : Int}  (h : eh_ok σ → (-2147483648 ≤ s0 ∧ s0 < 2147483648) ∧ ((s0 = 0 → Rt (some (.inl (-1))) σ) ∧ (¬ s0 = 0 → T157 [.inr (some (4, 0)), .inl a1, .inl a2] σ (0, 0) (fun r σ1 => X 24 [some (.inr (some (4, 0))), some (.inl a1), some (.inl a2)] (r.toList ++ []) σ1 (0, 0))))) : X 11 [some (.inr (some (4, 0))), some (.inl a1), some (.inl a2)] [.inl s0] σ (0, 0) := by
  refine ru_ok hX (fun hok => ?_)
  replace h := h hok
  obtain ⟨k1, h⟩ := h
  refine ru_if_ne (tgt := 18) hX dX4_is_11 (by decide) k1 (fun q => ?_) (fun q => ?_)
  · have q2 := q
    replace h := h.2 q2
    refine ru_aload_n hX dX4_is_18 rfl (fun _ => ?_)
    refine ru_iload_n hX dX4_is_19 rfl (fun _ => ?_)
    refine ru_iload_n hX dX4_is_20 rfl (fun _ => ?_)
    exact ru_callV (as := [.inr (some (4, 0)), .inl a1, .inl a2]) (rest := []) hX dX4_is_21 hc157 rfl (Nat.le_of_ble_eq_true rfl) (0, 0) ⟨Nat.zero_le _, Nat.zero_le _⟩ h
  · have q3 := q
    replace h := h.1 q3
    refine ru_iconst hX dX4_is_14 (fun _ => ?_)
    refine ru_goto (tgt := 32) hX dX4_is_15 (by decide) ?_
    exact ru_ireturn hX dX4_is_32 (Or.inl rfl) ⟨Nat.zero_le _, Nat.zero_le _⟩ (fun _ => h)
theorem bX4_is_24 {cs ss : Nat → Option (Nat × eh_T)} {lim : Nat × Nat} {Rt : Option eh_V → eh_S → Prop} {X : eh_X} (hX : eh_Ru eh_nX eh_fl4 eh_kn4 cs ss lim Rt 0 cX4_is X)  {σ : eh_S}  {o0 : Option eh_V} {o1 : Option eh_V} {o2 : Option eh_V} {s0 : Int}  (h : eh_ok σ → (-2147483648 ≤ s0 ∧ s0 < 2147483648) ∧ ((s0 = 0 → Rt (some (.inl 0)) σ) ∧ (¬ s0 = 0 → Rt (some (.inl 1)) σ))) : X 24 [o0, o1, o2] [.inl s0] σ (0, 0) := by
  refine ru_ok hX (fun hok => ?_)
  replace h := h hok
  obtain ⟨k1, h⟩ := h
  refine ru_if_eq (tgt := 31) hX dX4_is_24 (by decide) k1 (fun q => ?_) (fun q => ?_)
  · have q2 := q
    replace h := h.1 q2
    refine ru_iconst hX dX4_is_31 (fun _ => ?_)
    exact ru_ireturn hX dX4_is_32 (Or.inl rfl) ⟨Nat.zero_le _, Nat.zero_le _⟩ (fun _ => h)
  · have q3 := q
    replace h := h.2 q3
    refine ru_iconst hX dX4_is_27 (fun _ => ?_)
    refine ru_goto (tgt := 32) hX dX4_is_28 (by decide) ?_
    exact ru_ireturn hX dX4_is_32 (Or.inl rfl) ⟨Nat.zero_le _, Nat.zero_le _⟩ (fun _ => h)
