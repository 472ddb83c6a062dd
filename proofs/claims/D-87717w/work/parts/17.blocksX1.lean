/-! block rows of class X1: printed by gen_blocks.py -/
set_option maxRecDepth 100000
theorem bX1_first_0 {cs ss : Nat → Option (Nat × eh_T)} {lim : Nat × Nat} {Rt : Option eh_V → eh_S → Prop} {X : eh_X} (hX : eh_Ru eh_nX eh_fl1 eh_kn1 cs ss lim Rt 0 cX1_first X)  {σ : eh_S}  {a1 : Int} {o2 : Option eh_V}  (h : eh_ok σ → X 2 [some (.inr (some (1, 0))), some (.inl a1), some (.inl a1)] [] σ (0, 0)) : X 0 [some (.inr (some (1, 0))), some (.inl a1), o2] [] σ (0, 0) := by
  refine ru_ok hX (fun hok => ?_)
  replace h := h hok
  refine ru_iload_n hX dX1_first_0 rfl (fun _ => ?_)
  refine ru_istore_n (ls1 := [some (.inr (some (1, 0))), some (.inl a1), some (.inl a1)]) hX dX1_first_1 (Nat.le_of_ble_eq_true rfl) rfl (fun _ => ?_)
  exact h
theorem bX1_first_2 {cs ss : Nat → Option (Nat × eh_T)} {lim : Nat × Nat} {Rt : Option eh_V → eh_S → Prop} {X : eh_X} (hX : eh_Ru eh_nX eh_fl1 eh_kn1 cs ss lim Rt 0 cX1_first X)  {σ : eh_S}  {o1 : Option eh_V} {a2 : Int}  (h : eh_ok σ → (0 ≤ a2 ∧ a2 < 38424) ∧ ((σ.2 202 0 a2 = (-1) → Rt (some (.inl (σ.2 200 0 a2))) σ) ∧ (¬ σ.2 202 0 a2 = (-1) → X 2 [some (.inr (some (1, 0))), o1, some (.inl (σ.2 202 0 a2))] [] σ (0, 0)))) : X 2 [some (.inr (some (1, 0))), o1, some (.inl a2)] [] σ (0, 0) := by
  refine ru_ok hX (fun hok => ?_)
  replace h := h hok
  refine ru_aload_n hX dX1_first_2 rfl (fun _ => ?_)
  refine ru_get (v := .inr (some (202, 0))) hX dX1_first_3 rfl ⟨by decide, by decide⟩ rfl (fun _ => ?_)
  refine ru_iload_n hX dX1_first_6 rfl (fun _ => ?_)
  obtain ⟨k1, h⟩ := h
  refine ru_iaload hX dX1_first_7 ⟨by decide, by decide⟩ rfl k1 (fun _ => ?_)
  refine ru_iconst hX dX1_first_8 (fun _ => ?_)
  refine ru_icmp_eq (tgt := 22) hX dX1_first_9 (by decide) (hok.2 _ _ _ (by decide) (by decide) (by decide) (by decide)) (by unfold eh_r; decide) (fun q => ?_) (fun q => ?_)
  · have q2 := q
    replace h := h.1 q2
    refine ru_aload_n hX dX1_first_22 rfl (fun _ => ?_)
    refine ru_get (v := .inr (some (200, 0))) hX dX1_first_23 rfl ⟨by decide, by decide⟩ rfl (fun _ => ?_)
    refine ru_iload_n hX dX1_first_26 rfl (fun _ => ?_)
    refine ru_iaload hX dX1_first_27 ⟨by decide, by decide⟩ rfl k1 (fun _ => ?_)
    exact ru_ireturn hX dX1_first_28 (Or.inl rfl) ⟨Nat.zero_le _, Nat.zero_le _⟩ (fun _ => h)
  · have q3 := q
    replace h := h.2 q3
    refine ru_aload_n hX dX1_first_12 rfl (fun _ => ?_)
    refine ru_get (v := .inr (some (202, 0))) hX dX1_first_13 rfl ⟨by decide, by decide⟩ rfl (fun _ => ?_)
    refine ru_iload_n hX dX1_first_16 rfl (fun _ => ?_)
    refine ru_iaload hX dX1_first_17 ⟨by decide, by decide⟩ rfl k1 (fun _ => ?_)
    refine ru_istore_n (ls1 := [some (.inr (some (1, 0))), o1, some (.inl (σ.2 202 0 a2))]) hX dX1_first_18 (Nat.le_of_ble_eq_true rfl) rfl (fun _ => ?_)
    refine ru_goto (tgt := 2) hX dX1_first_19 (by decide) ?_
    exact h
theorem bX1_leave_0 {cs ss : Nat → Option (Nat × eh_T)} {lim : Nat × Nat} {Rt : Option eh_V → eh_S → Prop} {X : eh_X} (hX : eh_Ru eh_nX eh_fl1 eh_kn1 cs ss lim Rt 2 cX1_leave X)  {σ : eh_S}  {a1 : Int} {o2 : Option eh_V} {o3 : Option eh_V}  (h : eh_ok σ → X 2 [some (.inr (some (1, 0))), some (.inl a1), some (.inl a1), o3] [] σ (0, 0)) : X 0 [some (.inr (some (1, 0))), some (.inl a1), o2, o3] [] σ (0, 0) := by
  refine ru_ok hX (fun hok => ?_)
  replace h := h hok
  refine ru_iload_n hX dX1_leave_0 rfl (fun _ => ?_)
  refine ru_istore_n (ls1 := [some (.inr (some (1, 0))), some (.inl a1), some (.inl a1), o3]) hX dX1_leave_1 (Nat.le_of_ble_eq_true rfl) rfl (fun _ => ?_)
  exact h
theorem bX1_leave_2 {cs ss : Nat → Option (Nat × eh_T)} {lim : Nat × Nat} {Rt : Option eh_V → eh_S → Prop} {X : eh_X} (hX : eh_Ru eh_nX eh_fl1 eh_kn1 cs ss lim Rt 2 cX1_leave X)  {σ : eh_S}  {o1 : Option eh_V} {a2 : Int} {o3 : Option eh_V}  (h : eh_ok σ → (-2147483648 ≤ a2 ∧ a2 < 2147483648) ∧ ((a2 = (-1) → Rt none σ) ∧ (¬ a2 = (-1) → (0 ≤ a2 ∧ a2 < 38424) ∧ (-2147483648 ≤ (σ.2 203 0 a2) - 1 ∧ (σ.2 203 0 a2) - 1 < 2147483648) ∧ (((σ.2 203 0 a2) - 1 = 0 → X 2 [some (.inr (some (1, 0))), o1, some (.inl (σ.2 202 0 a2)), some (.inl (σ.2 202 0 a2))] [] (eh_sV (eh_sA (eh_sA σ 203 0 a2 ((σ.2 203 0 a2) - 1)) 202 0 a2 (σ.1 204 0)) 204 0 a2) (0, 0)) ∧ (¬ (σ.2 203 0 a2) - 1 = 0 → Rt none (eh_sA σ 203 0 a2 ((σ.2 203 0 a2) - 1))))))) : X 2 [some (.inr (some (1, 0))), o1, some (.inl a2), o3] [] σ (0, 0) := by
  refine ru_ok hX (fun hok => ?_)
  replace h := h hok
  refine ru_iload_n hX dX1_leave_2 rfl (fun _ => ?_)
  refine ru_iconst hX dX1_leave_3 (fun _ => ?_)
  obtain ⟨k1, h⟩ := h
  refine ru_icmp_eq (tgt := 48) hX dX1_leave_4 (by decide) k1 (by unfold eh_r; decide) (fun q => ?_) (fun q => ?_)
  · have q2 := q
    replace h := h.1 q2
    exact ru_return hX dX1_leave_48 rfl ⟨Nat.zero_le _, Nat.zero_le _⟩ (fun _ => h)
  · have q3 := q
    replace h := h.2 q3
    refine ru_aload_n hX dX1_leave_7 rfl (fun _ => ?_)
    refine ru_get (v := .inr (some (203, 0))) hX dX1_leave_8 rfl ⟨by decide, by decide⟩ rfl (fun _ => ?_)
    refine ru_iload_n hX dX1_leave_11 rfl (fun _ => ?_)
    refine ru_dup2 hX dX1_leave_12 (fun _ => ?_)
    obtain ⟨k4, h⟩ := h
    refine ru_iaload hX dX1_leave_13 ⟨by decide, by decide⟩ rfl k4 (fun _ => ?_)
    refine ru_iconst hX dX1_leave_14 (fun _ => ?_)
    refine ru_isub hX dX1_leave_15 (fun _ => ?_)
    refine ru_dup_x2 hX dX1_leave_16 (fun _ => ?_)
    obtain ⟨k5, h⟩ := h
    refine ru_iastore hX dX1_leave_17 ⟨by decide, by decide⟩ rfl k4 k5 (fun _ => ?_)
    refine ru_if_ne (tgt := 48) hX dX1_leave_18 (by decide) k5 (fun q => ?_) (fun q => ?_)
    · have q6 := q
      replace h := h.2 q6
      exact ru_return hX dX1_leave_48 rfl ⟨Nat.zero_le _, Nat.zero_le _⟩ (fun _ => h)
    · have q7 := q
      replace h := h.1 q7
      refine ru_aload_n hX dX1_leave_21 rfl (fun hok8 => ?_)
      refine ru_get (v := .inr (some (202, 0))) hX dX1_leave_22 rfl ⟨by decide, by decide⟩ rfl (fun _ => ?_)
      refine ru_iload_n hX dX1_leave_25 rfl (fun _ => ?_)
      refine ru_iaload hX dX1_leave_26 ⟨by decide, by decide⟩ rfl k4 (fun _ => ?_)
      refine ru_istore_n (ls1 := [some (.inr (some (1, 0))), o1, some (.inl a2), some (.inl (σ.2 202 0 a2))]) hX dX1_leave_27 (Nat.le_of_ble_eq_true rfl) rfl (fun _ => ?_)
      refine ru_aload_n hX dX1_leave_28 rfl (fun _ => ?_)
      refine ru_get (v := .inr (some (202, 0))) hX dX1_leave_29 rfl ⟨by decide, by decide⟩ rfl (fun _ => ?_)
      refine ru_iload_n hX dX1_leave_32 rfl (fun _ => ?_)
      refine ru_aload_n hX dX1_leave_33 rfl (fun _ => ?_)
      refine ru_get (v := .inl (σ.1 204 0)) hX dX1_leave_34 rfl ⟨by decide, by decide⟩ rfl (fun _ => ?_)
      refine ru_iastore hX dX1_leave_37 ⟨by decide, by decide⟩ rfl k4 (hok.1 _ _) (fun _ => ?_)
      refine ru_aload_n hX dX1_leave_38 rfl (fun hok9 => ?_)
      refine ru_iload_n hX dX1_leave_39 rfl (fun _ => ?_)
      refine ru_putI (id := 204) hX dX1_leave_40 rfl ⟨by decide, by decide⟩ rfl k1 rfl (fun _ => ?_)
      refine ru_iload_n hX dX1_leave_43 rfl (fun hok10 => ?_)
      refine ru_istore_n (ls1 := [some (.inr (some (1, 0))), o1, some (.inl (σ.2 202 0 a2)), some (.inl (σ.2 202 0 a2))]) hX dX1_leave_44 (Nat.le_of_ble_eq_true rfl) rfl (fun _ => ?_)
      refine ru_goto (tgt := 2) hX dX1_leave_45 (by decide) ?_
      exact h
theorem bX1_last_0 {cs ss : Nat → Option (Nat × eh_T)} {lim : Nat × Nat} {Rt : Option eh_V → eh_S → Prop} {X : eh_X} (hX : eh_Ru eh_nX eh_fl1 eh_kn1 cs ss lim Rt 0 cX1_last X)  {σ : eh_S}  {a1 : Int} {a2 : Int} {o3 : Option eh_V}  (h : eh_ok σ → X 2 [some (.inr (some (1, 0))), some (.inl a1), some (.inl a2), some (.inl a1)] [] σ (0, 0)) : X 0 [some (.inr (some (1, 0))), some (.inl a1), some (.inl a2), o3] [] σ (0, 0) := by
  refine ru_ok hX (fun hok => ?_)
  replace h := h hok
  refine ru_iload_n hX dX1_last_0 rfl (fun _ => ?_)
  refine ru_istore_n (ls1 := [some (.inr (some (1, 0))), some (.inl a1), some (.inl a2), some (.inl a1)]) hX dX1_last_1 (Nat.le_of_ble_eq_true rfl) rfl (fun _ => ?_)
  exact h
theorem bX1_last_2 {cs ss : Nat → Option (Nat × eh_T)} {lim : Nat × Nat} {Rt : Option eh_V → eh_S → Prop} {X : eh_X} (hX : eh_Ru eh_nX eh_fl1 eh_kn1 cs ss lim Rt 0 cX1_last X)  {σ : eh_S}  {o1 : Option eh_V} {a2 : Int} {a3 : Int}  (h : eh_ok σ → (-2147483648 ≤ a3 ∧ a3 < 2147483648) ∧ ((a3 = (-1) → Rt (some (.inl (-1))) σ) ∧ (¬ a3 = (-1) → (0 ≤ a3 ∧ a3 < 38424) ∧ (-2147483648 ≤ a2 ∧ a2 < 2147483648) ∧ ((σ.2 201 0 a3 = a2 → Rt (some (.inl (σ.2 200 0 a3))) σ) ∧ (¬ σ.2 201 0 a3 = a2 → X 2 [some (.inr (some (1, 0))), o1, some (.inl a2), some (.inl (σ.2 202 0 a3))] [] σ (0, 0)))))) : X 2 [some (.inr (some (1, 0))), o1, some (.inl a2), some (.inl a3)] [] σ (0, 0) := by
  refine ru_ok hX (fun hok => ?_)
  replace h := h hok
  refine ru_iload_n hX dX1_last_2 rfl (fun _ => ?_)
  refine ru_iconst hX dX1_last_3 (fun _ => ?_)
  obtain ⟨k1, h⟩ := h
  refine ru_icmp_eq (tgt := 27) hX dX1_last_4 (by decide) k1 (by unfold eh_r; decide) (fun q => ?_) (fun q => ?_)
  · have q2 := q
    replace h := h.1 q2
    refine ru_iload_n hX dX1_last_27 rfl (fun _ => ?_)
    refine ru_iconst hX dX1_last_28 (fun _ => ?_)
    refine ru_icmp_ne (tgt := 36) hX dX1_last_29 (by decide) k1 (by unfold eh_r; decide) (fun q => ?_) (fun q => ?_)
    · exact absurd q2 q
    clear q
    refine ru_iconst hX dX1_last_32 (fun _ => ?_)
    refine ru_goto (tgt := 42) hX dX1_last_33 (by decide) ?_
    exact ru_ireturn hX dX1_last_42 (Or.inl rfl) ⟨Nat.zero_le _, Nat.zero_le _⟩ (fun _ => h)
  · have q3 := q
    replace h := h.2 q3
    refine ru_aload_n hX dX1_last_7 rfl (fun _ => ?_)
    refine ru_get (v := .inr (some (201, 0))) hX dX1_last_8 rfl ⟨by decide, by decide⟩ rfl (fun _ => ?_)
    refine ru_iload_n hX dX1_last_11 rfl (fun _ => ?_)
    obtain ⟨k4, h⟩ := h
    refine ru_iaload hX dX1_last_12 ⟨by decide, by decide⟩ rfl k4 (fun _ => ?_)
    refine ru_iload_n hX dX1_last_13 rfl (fun _ => ?_)
    obtain ⟨k5, h⟩ := h
    refine ru_icmp_eq (tgt := 27) hX dX1_last_14 (by decide) (hok.2 _ _ _ (by decide) (by decide) (by decide) (by decide)) k5 (fun q => ?_) (fun q => ?_)
    · have q6 := q
      replace h := h.1 q6
      refine ru_iload_n hX dX1_last_27 rfl (fun _ => ?_)
      refine ru_iconst hX dX1_last_28 (fun _ => ?_)
      refine ru_icmp_ne (tgt := 36) hX dX1_last_29 (by decide) k1 (by unfold eh_r; decide) (fun q => ?_) (fun q => ?_)
      rotate_left
      · exact absurd q q3
      clear q
      refine ru_aload_n hX dX1_last_36 rfl (fun _ => ?_)
      refine ru_get (v := .inr (some (200, 0))) hX dX1_last_37 rfl ⟨by decide, by decide⟩ rfl (fun _ => ?_)
      refine ru_iload_n hX dX1_last_40 rfl (fun _ => ?_)
      refine ru_iaload hX dX1_last_41 ⟨by decide, by decide⟩ rfl k4 (fun _ => ?_)
      exact ru_ireturn hX dX1_last_42 (Or.inl rfl) ⟨Nat.zero_le _, Nat.zero_le _⟩ (fun _ => h)
    · have q7 := q
      replace h := h.2 q7
      refine ru_aload_n hX dX1_last_17 rfl (fun _ => ?_)
      refine ru_get (v := .inr (some (202, 0))) hX dX1_last_18 rfl ⟨by decide, by decide⟩ rfl (fun _ => ?_)
      refine ru_iload_n hX dX1_last_21 rfl (fun _ => ?_)
      refine ru_iaload hX dX1_last_22 ⟨by decide, by decide⟩ rfl k4 (fun _ => ?_)
      refine ru_istore_n (ls1 := [some (.inr (some (1, 0))), o1, some (.inl a2), some (.inl (σ.2 202 0 a3))]) hX dX1_last_23 (Nat.le_of_ble_eq_true rfl) rfl (fun _ => ?_)
      refine ru_goto (tgt := 2) hX dX1_last_24 (by decide) ?_
      exact h
theorem bX1_count_0 {cs ss : Nat → Option (Nat × eh_T)} {lim : Nat × Nat} {Rt : Option eh_V → eh_S → Prop} {X : eh_X} (hX : eh_Ru eh_nX eh_fl1 eh_kn1 cs ss lim Rt 0 cX1_count X)  {σ : eh_S}  {a1 : Int} {o2 : Option eh_V} {o3 : Option eh_V}  (h : eh_ok σ → X 4 [some (.inr (some (1, 0))), some (.inl a1), some (.inl 0), some (.inl a1)] [] σ (0, 0)) : X 0 [some (.inr (some (1, 0))), some (.inl a1), o2, o3] [] σ (0, 0) := by
  refine ru_ok hX (fun hok => ?_)
  replace h := h hok
  refine ru_iconst hX dX1_count_0 (fun _ => ?_)
  refine ru_istore_n (ls1 := [some (.inr (some (1, 0))), some (.inl a1), some (.inl 0), o3]) hX dX1_count_1 (Nat.le_of_ble_eq_true rfl) rfl (fun _ => ?_)
  refine ru_iload_n hX dX1_count_2 rfl (fun _ => ?_)
  refine ru_istore_n (ls1 := [some (.inr (some (1, 0))), some (.inl a1), some (.inl 0), some (.inl a1)]) hX dX1_count_3 (Nat.le_of_ble_eq_true rfl) rfl (fun _ => ?_)
  exact h
theorem bX1_count_4 {cs ss : Nat → Option (Nat × eh_T)} {lim : Nat × Nat} {Rt : Option eh_V → eh_S → Prop} {X : eh_X} (hX : eh_Ru eh_nX eh_fl1 eh_kn1 cs ss lim Rt 0 cX1_count X)  {σ : eh_S}  {a1 : Int} {a2 : Int} {a3 : Int}  (h : eh_ok σ → (-2147483648 ≤ a3 ∧ a3 < 2147483648) ∧ ((a3 = (-1) → Rt (some (.inl a2)) σ) ∧ (¬ a3 = (-1) → (0 ≤ a3 ∧ a3 < 38424) ∧ (0 ≤ a1 ∧ a1 < 38424) ∧ ((σ.2 201 0 a3 = σ.2 201 0 a1 → X 4 [some (.inr (some (1, 0))), some (.inl a1), some (.inl (a2 + 1)), some (.inl (σ.2 202 0 a3))] [] σ (0, 0)) ∧ (¬ σ.2 201 0 a3 = σ.2 201 0 a1 → Rt (some (.inl a2)) σ))))) : X 4 [some (.inr (some (1, 0))), some (.inl a1), some (.inl a2), some (.inl a3)] [] σ (0, 0) := by
  refine ru_ok hX (fun hok => ?_)
  replace h := h hok
  refine ru_iload_n hX dX1_count_4 rfl (fun _ => ?_)
  refine ru_iconst hX dX1_count_5 (fun _ => ?_)
  obtain ⟨k1, h⟩ := h
  refine ru_icmp_eq (tgt := 37) hX dX1_count_6 (by decide) k1 (by unfold eh_r; decide) (fun q => ?_) (fun q => ?_)
  · have q2 := q
    replace h := h.1 q2
    refine ru_iload_n hX dX1_count_37 rfl (fun _ => ?_)
    exact ru_ireturn hX dX1_count_38 (Or.inl rfl) ⟨Nat.zero_le _, Nat.zero_le _⟩ (fun _ => h)
  · have q3 := q
    replace h := h.2 q3
    refine ru_aload_n hX dX1_count_9 rfl (fun _ => ?_)
    refine ru_get (v := .inr (some (201, 0))) hX dX1_count_10 rfl ⟨by decide, by decide⟩ rfl (fun _ => ?_)
    refine ru_iload_n hX dX1_count_13 rfl (fun _ => ?_)
    obtain ⟨k4, h⟩ := h
    refine ru_iaload hX dX1_count_14 ⟨by decide, by decide⟩ rfl k4 (fun _ => ?_)
    refine ru_aload_n hX dX1_count_15 rfl (fun _ => ?_)
    refine ru_get (v := .inr (some (201, 0))) hX dX1_count_16 rfl ⟨by decide, by decide⟩ rfl (fun _ => ?_)
    refine ru_iload_n hX dX1_count_19 rfl (fun _ => ?_)
    obtain ⟨k5, h⟩ := h
    refine ru_iaload hX dX1_count_20 ⟨by decide, by decide⟩ rfl k5 (fun _ => ?_)
    refine ru_icmp_ne (tgt := 37) hX dX1_count_21 (by decide) (hok.2 _ _ _ (by decide) (by decide) (by decide) (by decide)) (hok.2 _ _ _ (by decide) (by decide) (by decide) (by decide)) (fun q => ?_) (fun q => ?_)
    · have q6 := q
      replace h := h.2 q6
      refine ru_iload_n hX dX1_count_37 rfl (fun _ => ?_)
      exact ru_ireturn hX dX1_count_38 (Or.inl rfl) ⟨Nat.zero_le _, Nat.zero_le _⟩ (fun _ => h)
    · have q7 := q
      replace h := h.1 q7
      refine ru_iinc (ls1 := [some (.inr (some (1, 0))), some (.inl a1), some (.inl (a2 + 1)), some (.inl a3)]) hX dX1_count_24 rfl rfl (fun _ => ?_)
      refine ru_aload_n hX dX1_count_27 rfl (fun _ => ?_)
      refine ru_get (v := .inr (some (202, 0))) hX dX1_count_28 rfl ⟨by decide, by decide⟩ rfl (fun _ => ?_)
      refine ru_iload_n hX dX1_count_31 rfl (fun _ => ?_)
      refine ru_iaload hX dX1_count_32 ⟨by decide, by decide⟩ rfl k4 (fun _ => ?_)
      refine ru_istore_n (ls1 := [some (.inr (some (1, 0))), some (.inl a1), some (.inl (a2 + 1)), some (.inl (σ.2 202 0 a3))]) hX dX1_count_33 (Nat.le_of_ble_eq_true rfl) rfl (fun _ => ?_)
      refine ru_goto (tgt := 4) hX dX1_count_34 (by decide) ?_
      exact h
theorem bX1_take_0 {cs ss : Nat → Option (Nat × eh_T)} {lim : Nat × Nat} {Rt : Option eh_V → eh_S → Prop} {X : eh_X} (hX : eh_Ru eh_nX eh_fl1 eh_kn1 cs ss lim Rt 0 cX1_take X)  {σ : eh_S}  {a1 : Int} {a2 : Int} {a3 : Int} {o4 : Option eh_V}  (h : eh_ok σ → ((σ.1 204 0 = (-1) → (-2147483648 ≤ (σ.1 205 0) + 1 ∧ (σ.1 205 0) + 1 < 2147483648) ∧ (0 ≤ σ.1 205 0 ∧ σ.1 205 0 < 38424) ∧ (-2147483648 ≤ a1 ∧ a1 < 2147483648) ∧ (-2147483648 ≤ a2 ∧ a2 < 2147483648) ∧ (-2147483648 ≤ a3 ∧ a3 < 2147483648) ∧ ((a3 = (-1) → Rt (some (.inl (σ.1 205 0))) (eh_sA (eh_sA (eh_sA (eh_sA (eh_sV σ 205 0 ((σ.1 205 0) + 1)) 200 0 (σ.1 205 0) a1) 201 0 (σ.1 205 0) a2) 202 0 (σ.1 205 0) a3) 203 0 (σ.1 205 0) 1)) ∧ (¬ a3 = (-1) → (0 ≤ a3 ∧ a3 < 38424) ∧ (-2147483648 ≤ ((eh_sA (eh_sA (eh_sA (eh_sA (eh_sV σ 205 0 ((σ.1 205 0) + 1)) 200 0 (σ.1 205 0) a1) 201 0 (σ.1 205 0) a2) 202 0 (σ.1 205 0) a3) 203 0 (σ.1 205 0) 1).2 203 0 a3) + 1 ∧ ((eh_sA (eh_sA (eh_sA (eh_sA (eh_sV σ 205 0 ((σ.1 205 0) + 1)) 200 0 (σ.1 205 0) a1) 201 0 (σ.1 205 0) a2) 202 0 (σ.1 205 0) a3) 203 0 (σ.1 205 0) 1).2 203 0 a3) + 1 < 2147483648) ∧ Rt (some (.inl (σ.1 205 0))) (eh_sA (eh_sA (eh_sA (eh_sA (eh_sA (eh_sV σ 205 0 ((σ.1 205 0) + 1)) 200 0 (σ.1 205 0) a1) 201 0 (σ.1 205 0) a2) 202 0 (σ.1 205 0) a3) 203 0 (σ.1 205 0) 1) 203 0 a3 (((eh_sA (eh_sA (eh_sA (eh_sA (eh_sV σ 205 0 ((σ.1 205 0) + 1)) 200 0 (σ.1 205 0) a1) 201 0 (σ.1 205 0) a2) 202 0 (σ.1 205 0) a3) 203 0 (σ.1 205 0) 1).2 203 0 a3) + 1))))) ∧ (¬ σ.1 204 0 = (-1) → (0 ≤ σ.1 204 0 ∧ σ.1 204 0 < 38424) ∧ (-2147483648 ≤ a1 ∧ a1 < 2147483648) ∧ (-2147483648 ≤ a2 ∧ a2 < 2147483648) ∧ (-2147483648 ≤ a3 ∧ a3 < 2147483648) ∧ ((a3 = (-1) → Rt (some (.inl (σ.1 204 0))) (eh_sA (eh_sA (eh_sA (eh_sA (eh_sV σ 204 0 (σ.2 202 0 (σ.1 204 0))) 200 0 (σ.1 204 0) a1) 201 0 (σ.1 204 0) a2) 202 0 (σ.1 204 0) a3) 203 0 (σ.1 204 0) 1)) ∧ (¬ a3 = (-1) → (0 ≤ a3 ∧ a3 < 38424) ∧ (-2147483648 ≤ ((eh_sA (eh_sA (eh_sA (eh_sA (eh_sV σ 204 0 (σ.2 202 0 (σ.1 204 0))) 200 0 (σ.1 204 0) a1) 201 0 (σ.1 204 0) a2) 202 0 (σ.1 204 0) a3) 203 0 (σ.1 204 0) 1).2 203 0 a3) + 1 ∧ ((eh_sA (eh_sA (eh_sA (eh_sA (eh_sV σ 204 0 (σ.2 202 0 (σ.1 204 0))) 200 0 (σ.1 204 0) a1) 201 0 (σ.1 204 0) a2) 202 0 (σ.1 204 0) a3) 203 0 (σ.1 204 0) 1).2 203 0 a3) + 1 < 2147483648) ∧ Rt (some (.inl (σ.1 204 0))) (eh_sA (eh_sA (eh_sA (eh_sA (eh_sA (eh_sV σ 204 0 (σ.2 202 0 (σ.1 204 0))) 200 0 (σ.1 204 0) a1) 201 0 (σ.1 204 0) a2) 202 0 (σ.1 204 0) a3) 203 0 (σ.1 204 0) 1) 203 0 a3 (((eh_sA (eh_sA (eh_sA (eh_sA (eh_sV σ 204 0 (σ.2 202 0 (σ.1 204 0))) 200 0 (σ.1 204 0) a1) 201 0 (σ.1 204 0) a2) 202 0 (σ.1 204 0) a3) 203 0 (σ.1 204 0) 1).2 203 0 a3) + 1))))))) : X 0 [some (.inr (some (1, 0))), some (.inl a1), some (.inl a2), some (.inl a3), o4] [] σ (0, 0) := by
  refine ru_ok hX (fun hok => ?_)
  replace h := h hok
  refine ru_aload_n hX dX1_take_0 rfl (fun _ => ?_)
  refine ru_get (v := .inl (σ.1 204 0)) hX dX1_take_1 rfl ⟨by decide, by decide⟩ rfl (fun _ => ?_)
  refine ru_istore (ls1 := [some (.inr (some (1, 0))), some (.inl a1), some (.inl a2), some (.inl a3), some (.inl (σ.1 204 0))]) hX dX1_take_4 (Nat.le_of_ble_eq_true rfl) rfl (fun _ => ?_)
  refine ru_iload hX dX1_take_6 rfl (fun _ => ?_)
  refine ru_iconst hX dX1_take_8 (fun _ => ?_)
  refine ru_icmp_ne (tgt := 28) hX dX1_take_9 (by decide) (hok.1 _ _) (by unfold eh_r; decide) (fun q => ?_) (fun q => ?_)
  · have q1 := q
    replace h := h.2 q1
    refine ru_aload_n hX dX1_take_28 rfl (fun _ => ?_)
    refine ru_aload_n hX dX1_take_29 rfl (fun _ => ?_)
    refine ru_get (v := .inr (some (202, 0))) hX dX1_take_30 rfl ⟨by decide, by decide⟩ rfl (fun _ => ?_)
    refine ru_iload hX dX1_take_33 rfl (fun _ => ?_)
    obtain ⟨k2, h⟩ := h
    refine ru_iaload hX dX1_take_35 ⟨by decide, by decide⟩ rfl k2 (fun _ => ?_)
    refine ru_putI (id := 204) hX dX1_take_36 rfl ⟨by decide, by decide⟩ rfl (hok.2 _ _ _ (by decide) (by decide) (by decide) (by decide)) rfl (fun _ => ?_)
    refine ru_aload_n hX dX1_take_39 rfl (fun hok3 => ?_)
    refine ru_get (v := .inr (some (200, 0))) hX dX1_take_40 rfl ⟨by decide, by decide⟩ rfl (fun _ => ?_)
    refine ru_iload hX dX1_take_43 rfl (fun _ => ?_)
    refine ru_iload_n hX dX1_take_45 rfl (fun _ => ?_)
    obtain ⟨k4, h⟩ := h
    refine ru_iastore hX dX1_take_46 ⟨by decide, by decide⟩ rfl k2 k4 (fun _ => ?_)
    refine ru_aload_n hX dX1_take_47 rfl (fun hok5 => ?_)
    refine ru_get (v := .inr (some (201, 0))) hX dX1_take_48 rfl ⟨by decide, by decide⟩ rfl (fun _ => ?_)
    refine ru_iload hX dX1_take_51 rfl (fun _ => ?_)
    refine ru_iload_n hX dX1_take_53 rfl (fun _ => ?_)
    obtain ⟨k6, h⟩ := h
    refine ru_iastore hX dX1_take_54 ⟨by decide, by decide⟩ rfl k2 k6 (fun _ => ?_)
    refine ru_aload_n hX dX1_take_55 rfl (fun hok7 => ?_)
    refine ru_get (v := .inr (some (202, 0))) hX dX1_take_56 rfl ⟨by decide, by decide⟩ rfl (fun _ => ?_)
    refine ru_iload hX dX1_take_59 rfl (fun _ => ?_)
    refine ru_iload_n hX dX1_take_61 rfl (fun _ => ?_)
    obtain ⟨k8, h⟩ := h
    refine ru_iastore hX dX1_take_62 ⟨by decide, by decide⟩ rfl k2 k8 (fun _ => ?_)
    refine ru_aload_n hX dX1_take_63 rfl (fun hok9 => ?_)
    refine ru_get (v := .inr (some (203, 0))) hX dX1_take_64 rfl ⟨by decide, by decide⟩ rfl (fun _ => ?_)
    refine ru_iload hX dX1_take_67 rfl (fun _ => ?_)
    refine ru_iconst hX dX1_take_69 (fun _ => ?_)
    refine ru_iastore hX dX1_take_70 ⟨by decide, by decide⟩ rfl k2 (by unfold eh_r; decide) (fun _ => ?_)
    refine ru_iload_n hX dX1_take_71 rfl (fun hok10 => ?_)
    refine ru_iconst hX dX1_take_72 (fun _ => ?_)
    refine ru_icmp_eq (tgt := 86) hX dX1_take_73 (by decide) k8 (by unfold eh_r; decide) (fun q => ?_) (fun q => ?_)
    · have q11 := q
      replace h := h.1 q11
      refine ru_iload hX dX1_take_86 rfl (fun _ => ?_)
      exact ru_ireturn hX dX1_take_88 (Or.inl rfl) ⟨Nat.zero_le _, Nat.zero_le _⟩ (fun _ => h)
    · have q12 := q
      replace h := h.2 q12
      refine ru_aload_n hX dX1_take_76 rfl (fun _ => ?_)
      refine ru_get (v := .inr (some (203, 0))) hX dX1_take_77 rfl ⟨by decide, by decide⟩ rfl (fun _ => ?_)
      refine ru_iload_n hX dX1_take_80 rfl (fun _ => ?_)
      refine ru_dup2 hX dX1_take_81 (fun _ => ?_)
      obtain ⟨k13, h⟩ := h
      refine ru_iaload hX dX1_take_82 ⟨by decide, by decide⟩ rfl k13 (fun _ => ?_)
      refine ru_iconst hX dX1_take_83 (fun _ => ?_)
      refine ru_iadd hX dX1_take_84 (fun _ => ?_)
      obtain ⟨k14, h⟩ := h
      refine ru_iastore hX dX1_take_85 ⟨by decide, by decide⟩ rfl k13 k14 (fun _ => ?_)
      refine ru_iload hX dX1_take_86 rfl (fun hok15 => ?_)
      exact ru_ireturn hX dX1_take_88 (Or.inl rfl) ⟨Nat.zero_le _, Nat.zero_le _⟩ (fun _ => h)
  · have q16 := q
    replace h := h.1 q16
    refine ru_aload_n hX dX1_take_12 rfl (fun _ => ?_)
    refine ru_dup hX dX1_take_13 (fun _ => ?_)
    refine ru_get (v := .inl (σ.1 205 0)) hX dX1_take_14 rfl ⟨by decide, by decide⟩ rfl (fun _ => ?_)
    refine ru_dup_x1 hX dX1_take_17 (fun _ => ?_)
    refine ru_iconst hX dX1_take_18 (fun _ => ?_)
    refine ru_iadd hX dX1_take_19 (fun _ => ?_)
    obtain ⟨k17, h⟩ := h
    refine ru_putI (id := 205) hX dX1_take_20 rfl ⟨by decide, by decide⟩ rfl k17 rfl (fun _ => ?_)
    refine ru_istore (ls1 := [some (.inr (some (1, 0))), some (.inl a1), some (.inl a2), some (.inl a3), some (.inl (σ.1 205 0))]) hX dX1_take_23 (Nat.le_of_ble_eq_true rfl) rfl (fun hok18 => ?_)
    refine ru_goto (tgt := 39) hX dX1_take_25 (by decide) ?_
    refine ru_aload_n hX dX1_take_39 rfl (fun _ => ?_)
    refine ru_get (v := .inr (some (200, 0))) hX dX1_take_40 rfl ⟨by decide, by decide⟩ rfl (fun _ => ?_)
    refine ru_iload hX dX1_take_43 rfl (fun _ => ?_)
    refine ru_iload_n hX dX1_take_45 rfl (fun _ => ?_)
    obtain ⟨k19, h⟩ := h
    obtain ⟨k20, h⟩ := h
    refine ru_iastore hX dX1_take_46 ⟨by decide, by decide⟩ rfl k19 k20 (fun _ => ?_)
    refine ru_aload_n hX dX1_take_47 rfl (fun hok21 => ?_)
    refine ru_get (v := .inr (some (201, 0))) hX dX1_take_48 rfl ⟨by decide, by decide⟩ rfl (fun _ => ?_)
    refine ru_iload hX dX1_take_51 rfl (fun _ => ?_)
    refine ru_iload_n hX dX1_take_53 rfl (fun _ => ?_)
    obtain ⟨k22, h⟩ := h
    refine ru_iastore hX dX1_take_54 ⟨by decide, by decide⟩ rfl k19 k22 (fun _ => ?_)
    refine ru_aload_n hX dX1_take_55 rfl (fun hok23 => ?_)
    refine ru_get (v := .inr (some (202, 0))) hX dX1_take_56 rfl ⟨by decide, by decide⟩ rfl (fun _ => ?_)
    refine ru_iload hX dX1_take_59 rfl (fun _ => ?_)
    refine ru_iload_n hX dX1_take_61 rfl (fun _ => ?_)
    obtain ⟨k24, h⟩ := h
    refine ru_iastore hX dX1_take_62 ⟨by decide, by decide⟩ rfl k19 k24 (fun _ => ?_)
    refine ru_aload_n hX dX1_take_63 rfl (fun hok25 => ?_)
    refine ru_get (v := .inr (some (203, 0))) hX dX1_take_64 rfl ⟨by decide, by decide⟩ rfl (fun _ => ?_)
    refine ru_iload hX dX1_take_67 rfl (fun _ => ?_)
    refine ru_iconst hX dX1_take_69 (fun _ => ?_)
    refine ru_iastore hX dX1_take_70 ⟨by decide, by decide⟩ rfl k19 (by unfold eh_r; decide) (fun _ => ?_)
    refine ru_iload_n hX dX1_take_71 rfl (fun hok26 => ?_)
    refine ru_iconst hX dX1_take_72 (fun _ => ?_)
    refine ru_icmp_eq (tgt := 86) hX dX1_take_73 (by decide) k24 (by unfold eh_r; decide) (fun q => ?_) (fun q => ?_)
    · have q27 := q
      replace h := h.1 q27
      refine ru_iload hX dX1_take_86 rfl (fun _ => ?_)
      exact ru_ireturn hX dX1_take_88 (Or.inl rfl) ⟨Nat.zero_le _, Nat.zero_le _⟩ (fun _ => h)
    · have q28 := q
      replace h := h.2 q28
      refine ru_aload_n hX dX1_take_76 rfl (fun _ => ?_)
      refine ru_get (v := .inr (some (203, 0))) hX dX1_take_77 rfl ⟨by decide, by decide⟩ rfl (fun _ => ?_)
      refine ru_iload_n hX dX1_take_80 rfl (fun _ => ?_)
      refine ru_dup2 hX dX1_take_81 (fun _ => ?_)
      obtain ⟨k29, h⟩ := h
      refine ru_iaload hX dX1_take_82 ⟨by decide, by decide⟩ rfl k29 (fun _ => ?_)
      refine ru_iconst hX dX1_take_83 (fun _ => ?_)
      refine ru_iadd hX dX1_take_84 (fun _ => ?_)
      obtain ⟨k30, h⟩ := h
      refine ru_iastore hX dX1_take_85 ⟨by decide, by decide⟩ rfl k29 k30 (fun _ => ?_)
      refine ru_iload hX dX1_take_86 rfl (fun hok31 => ?_)
      exact ru_ireturn hX dX1_take_88 (Or.inl rfl) ⟨Nat.zero_le _, Nat.zero_le _⟩ (fun _ => h)
theorem bX1_length_0 {cs ss : Nat → Option (Nat × eh_T)} {lim : Nat × Nat} {Rt : Option eh_V → eh_S → Prop} {X : eh_X} (hX : eh_Ru eh_nX eh_fl1 eh_kn1 cs ss lim Rt 0 cX1_length X)  {σ : eh_S}  {a1 : Int} {o2 : Option eh_V} {o3 : Option eh_V}  (h : eh_ok σ → X 4 [some (.inr (some (1, 0))), some (.inl a1), some (.inl 0), some (.inl a1)] [] σ (0, 0)) : X 0 [some (.inr (some (1, 0))), some (.inl a1), o2, o3] [] σ (0, 0) := by
  refine ru_ok hX (fun hok => ?_)
  replace h := h hok
  refine ru_iconst hX dX1_length_0 (fun _ => ?_)
  refine ru_istore_n (ls1 := [some (.inr (some (1, 0))), some (.inl a1), some (.inl 0), o3]) hX dX1_length_1 (Nat.le_of_ble_eq_true rfl) rfl (fun _ => ?_)
  refine ru_iload_n hX dX1_length_2 rfl (fun _ => ?_)
  refine ru_istore_n (ls1 := [some (.inr (some (1, 0))), some (.inl a1), some (.inl 0), some (.inl a1)]) hX dX1_length_3 (Nat.le_of_ble_eq_true rfl) rfl (fun _ => ?_)
  exact h
theorem bX1_length_4 {cs ss : Nat → Option (Nat × eh_T)} {lim : Nat × Nat} {Rt : Option eh_V → eh_S → Prop} {X : eh_X} (hX : eh_Ru eh_nX eh_fl1 eh_kn1 cs ss lim Rt 0 cX1_length X)  {σ : eh_S}  {o1 : Option eh_V} {a2 : Int} {a3 : Int}  (h : eh_ok σ → (-2147483648 ≤ a3 ∧ a3 < 2147483648) ∧ ((a3 = (-1) → Rt (some (.inl a2)) σ) ∧ (¬ a3 = (-1) → (0 ≤ a3 ∧ a3 < 38424) ∧ X 4 [some (.inr (some (1, 0))), o1, some (.inl (a2 + 1)), some (.inl (σ.2 202 0 a3))] [] σ (0, 0)))) : X 4 [some (.inr (some (1, 0))), o1, some (.inl a2), some (.inl a3)] [] σ (0, 0) := by
  refine ru_ok hX (fun hok => ?_)
  replace h := h hok
  refine ru_iload_n hX dX1_length_4 rfl (fun _ => ?_)
  refine ru_iconst hX dX1_length_5 (fun _ => ?_)
  obtain ⟨k1, h⟩ := h
  refine ru_icmp_eq (tgt := 22) hX dX1_length_6 (by decide) k1 (by unfold eh_r; decide) (fun q => ?_) (fun q => ?_)
  · have q2 := q
    replace h := h.1 q2
    refine ru_iload_n hX dX1_length_22 rfl (fun _ => ?_)
    exact ru_ireturn hX dX1_length_23 (Or.inl rfl) ⟨Nat.zero_le _, Nat.zero_le _⟩ (fun _ => h)
  · have q3 := q
    replace h := h.2 q3
    refine ru_iinc (ls1 := [some (.inr (some (1, 0))), o1, some (.inl (a2 + 1)), some (.inl a3)]) hX dX1_length_9 rfl rfl (fun _ => ?_)
    refine ru_aload_n hX dX1_length_12 rfl (fun _ => ?_)
    refine ru_get (v := .inr (some (202, 0))) hX dX1_length_13 rfl ⟨by decide, by decide⟩ rfl (fun _ => ?_)
    refine ru_iload_n hX dX1_length_16 rfl (fun _ => ?_)
    obtain ⟨k4, h⟩ := h
    refine ru_iaload hX dX1_length_17 ⟨by decide, by decide⟩ rfl k4 (fun _ => ?_)
    refine ru_istore_n (ls1 := [some (.inr (some (1, 0))), o1, some (.inl (a2 + 1)), some (.inl (σ.2 202 0 a3))]) hX dX1_length_18 (Nat.le_of_ble_eq_true rfl) rfl (fun _ => ?_)
    refine ru_goto (tgt := 4) hX dX1_length_19 (by decide) ?_
    exact h
theorem bX1_at_0 {cs ss : Nat → Option (Nat × eh_T)} {lim : Nat × Nat} {Rt : Option eh_V → eh_S → Prop} {X : eh_X} (hX : eh_Ru eh_nX eh_fl1 eh_kn1 cs ss lim Rt 0 cX1_at X) {T32 : eh_T} (hc32 : cs 32 = some (2, T32)) {σ : eh_S}  {a1 : Int} {a2 : Int} {o3 : Option eh_V} {o4 : Option eh_V}  (h : eh_ok σ → T32 [.inr (some (1, 0)), .inl a1] σ (0, 0) (fun r σ1 => X 7 [some (.inr (some (1, 0))), some (.inl a1), some (.inl a2), some (.inl a1), o4] (r.toList ++ []) σ1 (0, 0))) : X 0 [some (.inr (some (1, 0))), some (.inl a1), some (.inl a2), o3, o4] [] σ (0, 0) := by
  refine ru_ok hX (fun hok => ?_)
  replace h := h hok
  refine ru_iload_n hX dX1_at_0 rfl (fun _ => ?_)
  refine ru_istore_n (ls1 := [some (.inr (some (1, 0))), some (.inl a1), some (.inl a2), some (.inl a1), o4]) hX dX1_at_1 (Nat.le_of_ble_eq_true rfl) rfl (fun _ => ?_)
  refine ru_aload_n hX dX1_at_2 rfl (fun _ => ?_)
  refine ru_iload_n hX dX1_at_3 rfl (fun _ => ?_)
  exact ru_callV (as := [.inr (some (1, 0)), .inl a1]) (rest := []) hX dX1_at_4 hc32 rfl (Nat.le_of_ble_eq_true rfl) (0, 0) ⟨Nat.zero_le _, Nat.zero_le _⟩ h
theorem bX1_at_7 {cs ss : Nat → Option (Nat × eh_T)} {lim : Nat × Nat} {Rt : Option eh_V → eh_S → Prop} {X : eh_X} (hX : eh_Ru eh_nX eh_fl1 eh_kn1 cs ss lim Rt 0 cX1_at X)  {σ : eh_S}  {o1 : Option eh_V} {a2 : Int} {a3 : Int} {o4 : Option eh_V} {s0 : Int}  (h : eh_ok σ → X 11 [some (.inr (some (1, 0))), o1, some (.inl a2), some (.inl a3), some (.inl (s0 - 1))] [] σ (0, 0)) : X 7 [some (.inr (some (1, 0))), o1, some (.inl a2), some (.inl a3), o4] [.inl s0] σ (0, 0) := by
  refine ru_ok hX (fun hok => ?_)
  replace h := h hok
  refine ru_iconst hX dX1_at_7 (fun _ => ?_)
  refine ru_isub hX dX1_at_8 (fun _ => ?_)
  refine ru_istore (ls1 := [some (.inr (some (1, 0))), o1, some (.inl a2), some (.inl a3), some (.inl (s0 - 1))]) hX dX1_at_9 (Nat.le_of_ble_eq_true rfl) rfl (fun _ => ?_)
  exact h
theorem bX1_at_11 {cs ss : Nat → Option (Nat × eh_T)} {lim : Nat × Nat} {Rt : Option eh_V → eh_S → Prop} {X : eh_X} (hX : eh_Ru eh_nX eh_fl1 eh_kn1 cs ss lim Rt 0 cX1_at X)  {σ : eh_S}  {o1 : Option eh_V} {a2 : Int} {a3 : Int} {a4 : Int}  (h : eh_ok σ → (-2147483648 ≤ a4 ∧ a4 < 2147483648) ∧ (-2147483648 ≤ a2 ∧ a2 < 2147483648) ∧ ((a4 ≤ a2 → Rt (some (.inl a3)) σ) ∧ (¬ a4 ≤ a2 → (0 ≤ a3 ∧ a3 < 38424) ∧ X 11 [some (.inr (some (1, 0))), o1, some (.inl a2), some (.inl (σ.2 202 0 a3)), some (.inl (a4 + (-1)))] [] σ (0, 0)))) : X 11 [some (.inr (some (1, 0))), o1, some (.inl a2), some (.inl a3), some (.inl a4)] [] σ (0, 0) := by
  refine ru_ok hX (fun hok => ?_)
  replace h := h hok
  refine ru_iload hX dX1_at_11 rfl (fun _ => ?_)
  refine ru_iload_n hX dX1_at_13 rfl (fun _ => ?_)
  obtain ⟨k1, h⟩ := h
  obtain ⟨k2, h⟩ := h
  refine ru_icmp_le (tgt := 30) hX dX1_at_14 (by decide) k1 k2 (fun q => ?_) (fun q => ?_)
  · have q3 := q
    replace h := h.1 q3
    refine ru_iload_n hX dX1_at_30 rfl (fun _ => ?_)
    exact ru_ireturn hX dX1_at_31 (Or.inl rfl) ⟨Nat.zero_le _, Nat.zero_le _⟩ (fun _ => h)
  · have q4 := q
    replace h := h.2 q4
    refine ru_aload_n hX dX1_at_17 rfl (fun _ => ?_)
    refine ru_get (v := .inr (some (202, 0))) hX dX1_at_18 rfl ⟨by decide, by decide⟩ rfl (fun _ => ?_)
    refine ru_iload_n hX dX1_at_21 rfl (fun _ => ?_)
    obtain ⟨k5, h⟩ := h
    refine ru_iaload hX dX1_at_22 ⟨by decide, by decide⟩ rfl k5 (fun _ => ?_)
    refine ru_istore_n (ls1 := [some (.inr (some (1, 0))), o1, some (.inl a2), some (.inl (σ.2 202 0 a3)), some (.inl a4)]) hX dX1_at_23 (Nat.le_of_ble_eq_true rfl) rfl (fun _ => ?_)
    refine ru_iinc (ls1 := [some (.inr (some (1, 0))), o1, some (.inl a2), some (.inl (σ.2 202 0 a3)), some (.inl (a4 + (-1)))]) hX dX1_at_24 rfl rfl (fun _ => ?_)
    refine ru_goto (tgt := 11) hX dX1_at_27 (by decide) ?_
    exact h
