/-! block rows of class X3: printed by gen_blocks.py -/
set_option maxRecDepth 100000
theorem bX3_come_0 {cs ss : Nat → Option (Nat × eh_T)} {lim : Nat × Nat} {Rt : Option eh_V → eh_S → Prop} {X : eh_X} (hX : eh_Ru eh_nX eh_fl3 eh_kn3 cs ss lim Rt 2 cX3_come X) {T149 : eh_T} (hc149 : cs 149 = some (2, T149)) {σ : eh_S} {b : Nat × Nat} (hb : b.1 ≤ lim.1 ∧ b.2 ≤ lim.2) {p0 : Int} {a1 : Int} {o2 : Option eh_V} {o3 : Option eh_V} {o4 : Option eh_V} {o5 : Option eh_V} {o6 : Option eh_V} (hp0 : 0 ≤ p0 ∧ p0 < 8) (h : eh_ok σ → T149 [.inr (some (3, p0)), .inl a1] σ (0, 0) (fun r σ1 => X 5 [some (.inr (some (3, p0))), some (.inl a1), o2, o3, o4, o5, o6] (r.toList ++ []) σ1 b)) : X 0 [some (.inr (some (3, p0))), some (.inl a1), o2, o3, o4, o5, o6] [] σ b := by
  refine ru_ok hX (fun hok => ?_)
  replace h := h hok
  refine ru_aload_n hX dX3_come_0 rfl (fun _ => ?_)
  refine ru_iload_n hX dX3_come_1 rfl (fun _ => ?_)
  exact ru_callV (as := [.inr (some (3, p0)), .inl a1]) (rest := []) hX dX3_come_2 hc149 rfl (Nat.le_of_ble_eq_true rfl) (0, 0) hb h
theorem bX3_come_5 {cs ss : Nat → Option (Nat × eh_T)} {lim : Nat × Nat} {Rt : Option eh_V → eh_S → Prop} {X : eh_X} (hX : eh_Ru eh_nX eh_fl3 eh_kn3 cs ss lim Rt 2 cX3_come X)  {σ : eh_S} {b : Nat × Nat} (hb : b.1 ≤ lim.1 ∧ b.2 ≤ lim.2) {p0 : Int} {a1 : Int} {o2 : Option eh_V} {o3 : Option eh_V} {o4 : Option eh_V} {o5 : Option eh_V} {o6 : Option eh_V} (hp0 : 0 ≤ p0 ∧ p0 < 8) (h : eh_ok σ → X 15 [some (.inr (some (3, p0))), some (.inl a1), some (.inl (σ.1 415 p0)), some (.inl 0), some (.inl 0), o5, o6] [] σ b) : X 5 [some (.inr (some (3, p0))), some (.inl a1), o2, o3, o4, o5, o6] [] σ b := by
  refine ru_ok hX (fun hok => ?_)
  replace h := h hok
  refine ru_aload_n hX dX3_come_5 rfl (fun _ => ?_)
  refine ru_get (v := .inl (σ.1 415 p0)) hX dX3_come_6 rfl hp0 rfl (fun _ => ?_)
  refine ru_istore_n (ls1 := [some (.inr (some (3, p0))), some (.inl a1), some (.inl (σ.1 415 p0)), o3, o4, o5, o6]) hX dX3_come_9 (Nat.le_of_ble_eq_true rfl) rfl (fun _ => ?_)
  refine ru_iconst hX dX3_come_10 (fun _ => ?_)
  refine ru_istore_n (ls1 := [some (.inr (some (3, p0))), some (.inl a1), some (.inl (σ.1 415 p0)), some (.inl 0), o4, o5, o6]) hX dX3_come_11 (Nat.le_of_ble_eq_true rfl) rfl (fun _ => ?_)
  refine ru_iconst hX dX3_come_12 (fun _ => ?_)
  refine ru_istore (ls1 := [some (.inr (some (3, p0))), some (.inl a1), some (.inl (σ.1 415 p0)), some (.inl 0), some (.inl 0), o5, o6]) hX dX3_come_13 (Nat.le_of_ble_eq_true rfl) rfl (fun _ => ?_)
  exact h
theorem bX3_come_15 {cs ss : Nat → Option (Nat × eh_T)} {lim : Nat × Nat} {Rt : Option eh_V → eh_S → Prop} {X : eh_X} (hX : eh_Ru eh_nX eh_fl3 eh_kn3 cs ss lim Rt 2 cX3_come X) {T68 : eh_T} (hc68 : cs 68 = some (4, T68)) {T114 : eh_T} (hc114 : cs 114 = some (2, T114)) {σ : eh_S} {b : Nat × Nat} (hb : b.1 ≤ lim.1 ∧ b.2 ≤ lim.2) {p0 : Int} {a1 : Int} {a2 : Int} {a3 : Int} {a4 : Int} {o5 : Option eh_V} {o6 : Option eh_V} (hp0 : 0 ≤ p0 ∧ p0 < 8) (h : eh_ok σ → (-2147483648 ≤ a4 ∧ a4 < 2147483648) ∧ (-2147483648 ≤ a2 ∧ a2 < 2147483648) ∧ ((a2 ≤ a4 → ((σ.1 401 p0 = 0 → T68 [.inr (some (3, p0)), .inl 0, .inl (-1), .inl a1] σ (0, 0) (fun r σ1 => X 231 [some (.inr (some (3, p0))), some (.inl a1), some (.inl a2), some (.inl a3), some (.inl a4), o5, o6] (r.toList ++ []) σ1 b)) ∧ (¬ σ.1 401 p0 = 0 → (-2147483648 ≤ a3 ∧ a3 < 2147483648) ∧ T68 [.inr (some (3, p0)), .inl 0, .inl (-1), .inl a1] (eh_sV σ 415 p0 a3) (0, 0) (fun r σ1 => X 231 [some (.inr (some (3, p0))), some (.inl a1), some (.inl a2), some (.inl a3), some (.inl a4), o5, o6] (r.toList ++ []) σ1 b)))) ∧ (¬ a2 ≤ a4 → ((σ.1 410 p0 = 0 → (0 ≤ a4 ∧ a4 < 200) ∧ T114 [.inr (some (1, 0)), .inl (σ.2 413 p0 a4)] σ (0, 0) (fun r σ1 => X 46 [some (.inr (some (3, p0))), some (.inl a1), some (.inl a2), some (.inl a3), some (.inl a4), o5, o6] (r.toList ++ [.inr (some (3, p0))]) σ1 b)) ∧ (¬ σ.1 410 p0 = 0 → ((σ.1 401 p0 = 0 → T68 [.inr (some (3, p0)), .inl 0, .inl (-1), .inl a1] σ (0, 0) (fun r σ1 => X 231 [some (.inr (some (3, p0))), some (.inl a1), some (.inl a2), some (.inl a3), some (.inl a4), o5, o6] (r.toList ++ []) σ1 b)) ∧ (¬ σ.1 401 p0 = 0 → (-2147483648 ≤ a3 ∧ a3 < 2147483648) ∧ T68 [.inr (some (3, p0)), .inl 0, .inl (-1), .inl a1] (eh_sV σ 415 p0 a3) (0, 0) (fun r σ1 => X 231 [some (.inr (some (3, p0))), some (.inl a1), some (.inl a2), some (.inl a3), some (.inl a4), o5, o6] (r.toList ++ []) σ1 b)))))))) : X 15 [some (.inr (some (3, p0))), some (.inl a1), some (.inl a2), some (.inl a3), some (.inl a4), o5, o6] [] σ b := by
  refine ru_ok hX (fun hok => ?_)
  replace h := h hok
  refine ru_iload hX dX3_come_15 rfl (fun _ => ?_)
  refine ru_iload_n hX dX3_come_17 rfl (fun _ => ?_)
  obtain ⟨k1, h⟩ := h
  obtain ⟨k2, h⟩ := h
  refine ru_icmp_ge (tgt := 212) hX dX3_come_18 (by decide) k1 k2 (fun q => ?_) (fun q => ?_)
  · have q3 := q
    replace h := h.1 q3
    refine ru_aload_n hX dX3_come_212 rfl (fun _ => ?_)
    refine ru_get (v := .inl (σ.1 401 p0)) hX dX3_come_213 rfl hp0 rfl (fun _ => ?_)
    refine ru_if_eq (tgt := 224) hX dX3_come_216 (by decide) (hok.1 _ _) (fun q => ?_) (fun q => ?_)
    · have q4 := q
      replace h := h.1 q4
      refine ru_aload_n hX dX3_come_224 rfl (fun _ => ?_)
      refine ru_iconst hX dX3_come_225 (fun _ => ?_)
      refine ru_iconst hX dX3_come_226 (fun _ => ?_)
      refine ru_iload_n hX dX3_come_227 rfl (fun _ => ?_)
      exact ru_callV (as := [.inr (some (3, p0)), .inl 0, .inl (-1), .inl a1]) (rest := []) hX dX3_come_228 hc68 rfl (Nat.le_of_ble_eq_true rfl) (0, 0) hb h
    · have q5 := q
      replace h := h.2 q5
      refine ru_aload_n hX dX3_come_219 rfl (fun _ => ?_)
      refine ru_iload_n hX dX3_come_220 rfl (fun _ => ?_)
      obtain ⟨k6, h⟩ := h
      refine ru_putI (id := 415) hX dX3_come_221 rfl hp0 rfl k6 rfl (fun _ => ?_)
      refine ru_aload_n hX dX3_come_224 rfl (fun hok7 => ?_)
      refine ru_iconst hX dX3_come_225 (fun _ => ?_)
      refine ru_iconst hX dX3_come_226 (fun _ => ?_)
      refine ru_iload_n hX dX3_come_227 rfl (fun _ => ?_)
      exact ru_callV (as := [.inr (some (3, p0)), .inl 0, .inl (-1), .inl a1]) (rest := []) hX dX3_come_228 hc68 rfl (Nat.le_of_ble_eq_true rfl) (0, 0) hb h
  · have q8 := q
    replace h := h.2 q8
    refine ru_aload_n hX dX3_come_21 rfl (fun _ => ?_)
    refine ru_get (v := .inl (σ.1 410 p0)) hX dX3_come_22 rfl hp0 rfl (fun _ => ?_)
    refine ru_if_ne (tgt := 212) hX dX3_come_25 (by decide) (hok.1 _ _) (fun q => ?_) (fun q => ?_)
    · have q9 := q
      replace h := h.2 q9
      refine ru_aload_n hX dX3_come_212 rfl (fun _ => ?_)
      refine ru_get (v := .inl (σ.1 401 p0)) hX dX3_come_213 rfl hp0 rfl (fun _ => ?_)
      refine ru_if_eq (tgt := 224) hX dX3_come_216 (by decide) (hok.1 _ _) (fun q => ?_) (fun q => ?_)
      · have q10 := q
        replace h := h.1 q10
        refine ru_aload_n hX dX3_come_224 rfl (fun _ => ?_)
        refine ru_iconst hX dX3_come_225 (fun _ => ?_)
        refine ru_iconst hX dX3_come_226 (fun _ => ?_)
        refine ru_iload_n hX dX3_come_227 rfl (fun _ => ?_)
        exact ru_callV (as := [.inr (some (3, p0)), .inl 0, .inl (-1), .inl a1]) (rest := []) hX dX3_come_228 hc68 rfl (Nat.le_of_ble_eq_true rfl) (0, 0) hb h
      · have q11 := q
        replace h := h.2 q11
        refine ru_aload_n hX dX3_come_219 rfl (fun _ => ?_)
        refine ru_iload_n hX dX3_come_220 rfl (fun _ => ?_)
        obtain ⟨k12, h⟩ := h
        refine ru_putI (id := 415) hX dX3_come_221 rfl hp0 rfl k12 rfl (fun _ => ?_)
        refine ru_aload_n hX dX3_come_224 rfl (fun hok13 => ?_)
        refine ru_iconst hX dX3_come_225 (fun _ => ?_)
        refine ru_iconst hX dX3_come_226 (fun _ => ?_)
        refine ru_iload_n hX dX3_come_227 rfl (fun _ => ?_)
        exact ru_callV (as := [.inr (some (3, p0)), .inl 0, .inl (-1), .inl a1]) (rest := []) hX dX3_come_228 hc68 rfl (Nat.le_of_ble_eq_true rfl) (0, 0) hb h
    · have q14 := q
      replace h := h.1 q14
      refine ru_aload_n hX dX3_come_28 rfl (fun _ => ?_)
      refine ru_aload_n hX dX3_come_29 rfl (fun _ => ?_)
      refine ru_get (v := .inr (some (0, 0))) hX dX3_come_30 rfl hp0 rfl (fun _ => ?_)
      refine ru_get (v := .inr (some (1, 0))) hX dX3_come_33 rfl ⟨by decide, by decide⟩ rfl (fun _ => ?_)
      refine ru_aload_n hX dX3_come_36 rfl (fun _ => ?_)
      refine ru_get (v := .inr (some (413, p0))) hX dX3_come_37 rfl hp0 rfl (fun _ => ?_)
      refine ru_iload hX dX3_come_40 rfl (fun _ => ?_)
      obtain ⟨k15, h⟩ := h
      refine ru_iaload hX dX3_come_42 hp0 rfl k15 (fun _ => ?_)
      exact ru_callV (as := [.inr (some (1, 0)), .inl (σ.2 413 p0 a4)]) (rest := [.inr (some (3, p0))]) hX dX3_come_43 hc114 rfl (Nat.le_of_ble_eq_true rfl) (0, 0) hb h
theorem bX3_come_46 {cs ss : Nat → Option (Nat × eh_T)} {lim : Nat × Nat} {Rt : Option eh_V → eh_S → Prop} {X : eh_X} (hX : eh_Ru eh_nX eh_fl3 eh_kn3 cs ss lim Rt 2 cX3_come X) {T152 : eh_T} (hc152 : cs 152 = some (3, T152)) {σ : eh_S} {b : Nat × Nat} (hb : b.1 ≤ lim.1 ∧ b.2 ≤ lim.2) {p0 : Int} {a1 : Int} {a2 : Int} {a3 : Int} {a4 : Int} {o5 : Option eh_V} {o6 : Option eh_V} {s0 : Int} {t1 : Int} (hp0 : 0 ≤ p0 ∧ p0 < 8) (ht1 : 0 ≤ t1 ∧ t1 < 8) (h : eh_ok σ → T152 [.inr (some (3, t1)), .inl s0, .inl a1] σ (0, 0) (fun r σ1 => X 50 [some (.inr (some (3, p0))), some (.inl a1), some (.inl a2), some (.inl a3), some (.inl a4), o5, o6] (r.toList ++ []) σ1 b)) : X 46 [some (.inr (some (3, p0))), some (.inl a1), some (.inl a2), some (.inl a3), some (.inl a4), o5, o6] [.inl s0, .inr (some (3, t1))] σ b := by
  refine ru_ok hX (fun hok => ?_)
  replace h := h hok
  refine ru_iload_n hX dX3_come_46 rfl (fun _ => ?_)
  exact ru_callV (as := [.inr (some (3, t1)), .inl s0, .inl a1]) (rest := []) hX dX3_come_47 hc152 rfl (Nat.le_of_ble_eq_true rfl) (0, 0) hb h
theorem bX3_come_50 {cs ss : Nat → Option (Nat × eh_T)} {lim : Nat × Nat} {Rt : Option eh_V → eh_S → Prop} {X : eh_X} (hX : eh_Ru eh_nX eh_fl3 eh_kn3 cs ss lim Rt 2 cX3_come X) {T158 : eh_T} (hc158 : cs 158 = some (3, T158)) {T162 : eh_T} (hc162 : cs 162 = some (3, T162)) {σ : eh_S} {b : Nat × Nat} (hb : b.1 ≤ lim.1 ∧ b.2 ≤ lim.2) {p0 : Int} {a1 : Int} {a2 : Int} {a3 : Int} {a4 : Int} {o5 : Option eh_V} {o6 : Option eh_V} {s0 : Int} (hp0 : 0 ≤ p0 ∧ p0 < 8) (h : eh_ok σ → (-2147483648 ≤ s0 ∧ s0 < 2147483648) ∧ ((s0 = 0 → ((σ.1 410 p0 = 0 → (0 ≤ a4 ∧ a4 < 200) ∧ (0 ≤ a3 ∧ a3 < 200) ∧ (σ.2 414 p0 a4 = 0 ∨ σ.2 414 p0 a4 = 1) ∧ X 15 [some (.inr (some (3, p0))), some (.inl a1), some (.inl a2), some (.inl (a3 + 1)), some (.inl (a4 + 1)), some (.inl s0), some (.inl 0)] [] (eh_sA (eh_sA σ 413 p0 a3 (σ.2 413 p0 a4)) 414 p0 a3 (σ.2 414 p0 a4)) b) ∧ (¬ σ.1 410 p0 = 0 → Rt none σ))) ∧ (¬ s0 = 0 → ((σ.1 401 p0 = 0 → ∃ bd13 : Nat × Nat, (b.1 + bd13.1 ≤ lim.1 ∧ b.2 + bd13.2 ≤ lim.2) ∧ T158 [.inr (some (3, p0)), .inl a4, .inl a1] σ bd13 (fun r σ1 => X 74 [some (.inr (some (3, p0))), some (.inl a1), some (.inl a2), some (.inl a3), some (.inl a4), some (.inl s0), some (.inl 0)] (r.toList ++ []) σ1 (b.1 + bd13.1, b.2 + bd13.2))) ∧ (¬ σ.1 401 p0 = 0 → T162 [.inr (some (3, p0)), .inl a4, .inl a1] σ (0, 0) (fun r σ1 => X 89 [some (.inr (some (3, p0))), some (.inl a1), some (.inl a2), some (.inl a3), some (.inl a4), some (.inl s0), some (.inl 0)] (r.toList ++ []) σ1 b)))))) : X 50 [some (.inr (some (3, p0))), some (.inl a1), some (.inl a2), some (.inl a3), some (.inl a4), o5, o6] [.inl s0] σ b := by
  refine ru_ok hX (fun hok => ?_)
  replace h := h hok
  refine ru_istore (ls1 := [some (.inr (some (3, p0))), some (.inl a1), some (.inl a2), some (.inl a3), some (.inl a4), some (.inl s0), o6]) hX dX3_come_50 (Nat.le_of_ble_eq_true rfl) rfl (fun _ => ?_)
  refine ru_iconst hX dX3_come_52 (fun _ => ?_)
  refine ru_istore (ls1 := [some (.inr (some (3, p0))), some (.inl a1), some (.inl a2), some (.inl a3), some (.inl a4), some (.inl s0), some (.inl 0)]) hX dX3_come_53 (Nat.le_of_ble_eq_true rfl) rfl (fun _ => ?_)
  refine ru_iload hX dX3_come_55 rfl (fun _ => ?_)
  obtain ⟨k1, h⟩ := h
  refine ru_if_eq (tgt := 77) hX dX3_come_57 (by decide) k1 (fun q => ?_) (fun q => ?_)
  · have q2 := q
    replace h := h.1 q2
    refine ru_iload hX dX3_come_77 rfl (fun _ => ?_)
    refine ru_if_eq (tgt := 91) hX dX3_come_79 (by decide) k1 (fun q => ?_) (fun q => ?_)
    rotate_left
    · exact absurd q2 q
    clear q
    refine ru_aload_n hX dX3_come_91 rfl (fun _ => ?_)
    refine ru_get (v := .inl (σ.1 410 p0)) hX dX3_come_92 rfl hp0 rfl (fun _ => ?_)
    refine ru_if_eq (tgt := 99) hX dX3_come_95 (by decide) (hok.1 _ _) (fun q => ?_) (fun q => ?_)
    · have q3 := q
      replace h := h.1 q3
      refine ru_iload hX dX3_come_99 rfl (fun _ => ?_)
      refine ru_if_eq (tgt := 127) hX dX3_come_101 (by decide) k1 (fun q => ?_) (fun q => ?_)
      rotate_left
      · exact absurd q2 q
      clear q
      refine ru_iload hX dX3_come_127 rfl (fun _ => ?_)
      refine ru_if_eq (tgt := 177) hX dX3_come_129 (by decide) (by unfold eh_r; decide) (fun q => ?_) (fun q => ?_)
      rotate_left
      · exact absurd q (by decide)
      clear q
      refine ru_aload_n hX dX3_come_177 rfl (fun _ => ?_)
      refine ru_get (v := .inr (some (413, p0))) hX dX3_come_178 rfl hp0 rfl (fun _ => ?_)
      refine ru_iload_n hX dX3_come_181 rfl (fun _ => ?_)
      refine ru_aload_n hX dX3_come_182 rfl (fun _ => ?_)
      refine ru_get (v := .inr (some (413, p0))) hX dX3_come_183 rfl hp0 rfl (fun _ => ?_)
      refine ru_iload hX dX3_come_186 rfl (fun _ => ?_)
      obtain ⟨k4, h⟩ := h
      refine ru_iaload hX dX3_come_188 hp0 rfl k4 (fun _ => ?_)
      obtain ⟨k5, h⟩ := h
      refine ru_iastore hX dX3_come_189 hp0 rfl k5 (hok.2 _ _ _ (by decide) (by decide) (by decide) (by decide)) (fun _ => ?_)
      refine ru_aload_n hX dX3_come_190 rfl (fun hok6 => ?_)
      refine ru_get (v := .inr (some (414, p0))) hX dX3_come_191 rfl hp0 rfl (fun _ => ?_)
      refine ru_iload_n hX dX3_come_194 rfl (fun _ => ?_)
      refine ru_iinc (ls1 := [some (.inr (some (3, p0))), some (.inl a1), some (.inl a2), some (.inl (a3 + 1)), some (.inl a4), some (.inl s0), some (.inl 0)]) hX dX3_come_195 rfl rfl (fun _ => ?_)
      refine ru_aload_n hX dX3_come_198 rfl (fun _ => ?_)
      refine ru_get (v := .inr (some (414, p0))) hX dX3_come_199 rfl hp0 rfl (fun _ => ?_)
      refine ru_iload hX dX3_come_202 rfl (fun _ => ?_)
      refine ru_zaload hX dX3_come_204 (by decide) hp0 rfl k4 (fun _ => ?_)
      obtain ⟨k7, h⟩ := h
      refine ru_zastore hX dX3_come_205 (by decide) hp0 rfl k5 k7 (fun _ => ?_)
      refine ru_iinc (ls1 := [some (.inr (some (3, p0))), some (.inl a1), some (.inl a2), some (.inl (a3 + 1)), some (.inl (a4 + 1)), some (.inl s0), some (.inl 0)]) hX dX3_come_206 rfl rfl (fun hok8 => ?_)
      refine ru_goto (tgt := 15) hX dX3_come_209 (by decide) ?_
      exact h
    · have q9 := q
      replace h := h.2 q9
      exact ru_return hX dX3_come_98 rfl hb (fun _ => h)
  · have q10 := q
    replace h := h.2 q10
    refine ru_aload_n hX dX3_come_60 rfl (fun _ => ?_)
    refine ru_get (v := .inl (σ.1 401 p0)) hX dX3_come_61 rfl hp0 rfl (fun _ => ?_)
    refine ru_if_ne (tgt := 77) hX dX3_come_64 (by decide) (hok.1 _ _) (fun q => ?_) (fun q => ?_)
    · have q11 := q
      replace h := h.2 q11
      refine ru_iload hX dX3_come_77 rfl (fun _ => ?_)
      refine ru_if_eq (tgt := 91) hX dX3_come_79 (by decide) k1 (fun q => ?_) (fun q => ?_)
      · exact absurd q q10
      clear q
      refine ru_aload_n hX dX3_come_82 rfl (fun _ => ?_)
      refine ru_iload hX dX3_come_83 rfl (fun _ => ?_)
      refine ru_iload_n hX dX3_come_85 rfl (fun _ => ?_)
      exact ru_callV (as := [.inr (some (3, p0)), .inl a4, .inl a1]) (rest := []) hX dX3_come_86 hc162 rfl (Nat.le_of_ble_eq_true rfl) (0, 0) hb h
    · have q12 := q
      replace h := h.1 q12
      refine ru_aload_n hX dX3_come_67 rfl (fun _ => ?_)
      refine ru_iload hX dX3_come_68 rfl (fun _ => ?_)
      refine ru_iload_n hX dX3_come_70 rfl (fun _ => ?_)
      obtain ⟨bd13, hbd, h⟩ := h
      exact ru_callV (as := [.inr (some (3, p0)), .inl a4, .inl a1]) (rest := []) hX dX3_come_71 hc158 rfl (Nat.le_of_ble_eq_true rfl) bd13 hbd h
theorem bX3_come_74 {cs ss : Nat → Option (Nat × eh_T)} {lim : Nat × Nat} {Rt : Option eh_V → eh_S → Prop} {X : eh_X} (hX : eh_Ru eh_nX eh_fl3 eh_kn3 cs ss lim Rt 2 cX3_come X) {T131 : eh_T} (hc131 : cs 131 = some (2, T131)) {T165 : eh_T} (hc165 : cs 165 = some (3, T165)) {σ : eh_S} {b : Nat × Nat} (hb : b.1 ≤ lim.1 ∧ b.2 ≤ lim.2) {p0 : Int} {a1 : Int} {a2 : Int} {a3 : Int} {a4 : Int} {a5 : Int} {a6 : Int} (hp0 : 0 ≤ p0 ∧ p0 < 8) (h : eh_ok σ → ((σ.1 410 p0 = 0 → (-2147483648 ≤ a5 ∧ a5 < 2147483648) ∧ ((a5 = 0 → (-2147483648 ≤ a6 ∧ a6 < 2147483648) ∧ ((a6 = 0 → (0 ≤ a4 ∧ a4 < 200) ∧ (0 ≤ a3 ∧ a3 < 200) ∧ (σ.2 414 p0 a4 = 0 ∨ σ.2 414 p0 a4 = 1) ∧ X 15 [some (.inr (some (3, p0))), some (.inl a1), some (.inl a2), some (.inl (a3 + 1)), some (.inl (a4 + 1)), some (.inl a5), some (.inl a6)] [] (eh_sA (eh_sA σ 413 p0 a3 (σ.2 413 p0 a4)) 414 p0 a3 (σ.2 414 p0 a4)) b) ∧ (¬ a6 = 0 → (0 ≤ a4 ∧ a4 < 200) ∧ T131 [.inr (some (3, p0)), .inl (σ.2 413 p0 a4)] σ (0, 0) (fun r σ1 => X 143 [some (.inr (some (3, p0))), some (.inl a1), some (.inl a2), some (.inl a3), some (.inl a4), some (.inl a5), some (.inl a6)] (r.toList ++ []) σ1 b)))) ∧ (¬ a5 = 0 → (-2147483648 ≤ a6 ∧ a6 < 2147483648) ∧ ((a6 = 0 → T165 [.inr (some (3, p0)), .inl a4, .inl a1] σ (0, 0) (fun r σ1 => X 116 [some (.inr (some (3, p0))), some (.inl a1), some (.inl a2), some (.inl a3), some (.inl a4), some (.inl a5), some (.inl a6)] (r.toList ++ []) σ1 b)) ∧ (¬ a6 = 0 → (0 ≤ a4 ∧ a4 < 200) ∧ T131 [.inr (some (3, p0)), .inl (σ.2 413 p0 a4)] σ (0, 0) (fun r σ1 => X 143 [some (.inr (some (3, p0))), some (.inl a1), some (.inl a2), some (.inl a3), some (.inl a4), some (.inl a5), some (.inl a6)] (r.toList ++ []) σ1 b)))))) ∧ (¬ σ.1 410 p0 = 0 → Rt none σ))) : X 74 [some (.inr (some (3, p0))), some (.inl a1), some (.inl a2), some (.inl a3), some (.inl a4), some (.inl a5), some (.inl a6)] [] σ b := by
  refine ru_ok hX (fun hok => ?_)
  replace h := h hok
  refine ru_goto (tgt := 91) hX dX3_come_74 (by decide) ?_
  refine ru_aload_n hX dX3_come_91 rfl (fun _ => ?_)
  refine ru_get (v := .inl (σ.1 410 p0)) hX dX3_come_92 rfl hp0 rfl (fun _ => ?_)
  refine ru_if_eq (tgt := 99) hX dX3_come_95 (by decide) (hok.1 _ _) (fun q => ?_) (fun q => ?_)
  · have q1 := q
    replace h := h.1 q1
    refine ru_iload hX dX3_come_99 rfl (fun _ => ?_)
    obtain ⟨k2, h⟩ := h
    refine ru_if_eq (tgt := 127) hX dX3_come_101 (by decide) k2 (fun q => ?_) (fun q => ?_)
    · have q3 := q
      replace h := h.1 q3
      refine ru_iload hX dX3_come_127 rfl (fun _ => ?_)
      obtain ⟨k4, h⟩ := h
      refine ru_if_eq (tgt := 177) hX dX3_come_129 (by decide) k4 (fun q => ?_) (fun q => ?_)
      · have q5 := q
        replace h := h.1 q5
        refine ru_aload_n hX dX3_come_177 rfl (fun _ => ?_)
        refine ru_get (v := .inr (some (413, p0))) hX dX3_come_178 rfl hp0 rfl (fun _ => ?_)
        refine ru_iload_n hX dX3_come_181 rfl (fun _ => ?_)
        refine ru_aload_n hX dX3_come_182 rfl (fun _ => ?_)
        refine ru_get (v := .inr (some (413, p0))) hX dX3_come_183 rfl hp0 rfl (fun _ => ?_)
        refine ru_iload hX dX3_come_186 rfl (fun _ => ?_)
        obtain ⟨k6, h⟩ := h
        refine ru_iaload hX dX3_come_188 hp0 rfl k6 (fun _ => ?_)
        obtain ⟨k7, h⟩ := h
        refine ru_iastore hX dX3_come_189 hp0 rfl k7 (hok.2 _ _ _ (by decide) (by decide) (by decide) (by decide)) (fun _ => ?_)
        refine ru_aload_n hX dX3_come_190 rfl (fun hok8 => ?_)
        refine ru_get (v := .inr (some (414, p0))) hX dX3_come_191 rfl hp0 rfl (fun _ => ?_)
        refine ru_iload_n hX dX3_come_194 rfl (fun _ => ?_)
        refine ru_iinc (ls1 := [some (.inr (some (3, p0))), some (.inl a1), some (.inl a2), some (.inl (a3 + 1)), some (.inl a4), some (.inl a5), some (.inl a6)]) hX dX3_come_195 rfl rfl (fun _ => ?_)
        refine ru_aload_n hX dX3_come_198 rfl (fun _ => ?_)
        refine ru_get (v := .inr (some (414, p0))) hX dX3_come_199 rfl hp0 rfl (fun _ => ?_)
        refine ru_iload hX dX3_come_202 rfl (fun _ => ?_)
        refine ru_zaload hX dX3_come_204 (by decide) hp0 rfl k6 (fun _ => ?_)
        obtain ⟨k9, h⟩ := h
        refine ru_zastore hX dX3_come_205 (by decide) hp0 rfl k7 k9 (fun _ => ?_)
        refine ru_iinc (ls1 := [some (.inr (some (3, p0))), some (.inl a1), some (.inl a2), some (.inl (a3 + 1)), some (.inl (a4 + 1)), some (.inl a5), some (.inl a6)]) hX dX3_come_206 rfl rfl (fun hok10 => ?_)
        refine ru_goto (tgt := 15) hX dX3_come_209 (by decide) ?_
        exact h
      · have q11 := q
        replace h := h.2 q11
        refine ru_aload_n hX dX3_come_132 rfl (fun _ => ?_)
        refine ru_aload_n hX dX3_come_133 rfl (fun _ => ?_)
        refine ru_get (v := .inr (some (413, p0))) hX dX3_come_134 rfl hp0 rfl (fun _ => ?_)
        refine ru_iload hX dX3_come_137 rfl (fun _ => ?_)
        obtain ⟨k12, h⟩ := h
        refine ru_iaload hX dX3_come_139 hp0 rfl k12 (fun _ => ?_)
        exact ru_callV (as := [.inr (some (3, p0)), .inl (σ.2 413 p0 a4)]) (rest := []) hX dX3_come_140 hc131 rfl (Nat.le_of_ble_eq_true rfl) (0, 0) hb h
    · have q13 := q
      replace h := h.2 q13
      refine ru_iload hX dX3_come_104 rfl (fun _ => ?_)
      obtain ⟨k14, h⟩ := h
      refine ru_if_ne (tgt := 127) hX dX3_come_106 (by decide) k14 (fun q => ?_) (fun q => ?_)
      · have q15 := q
        replace h := h.2 q15
        refine ru_iload hX dX3_come_127 rfl (fun _ => ?_)
        refine ru_if_eq (tgt := 177) hX dX3_come_129 (by decide) k14 (fun q => ?_) (fun q => ?_)
        · exact absurd q q15
        clear q
        refine ru_aload_n hX dX3_come_132 rfl (fun _ => ?_)
        refine ru_aload_n hX dX3_come_133 rfl (fun _ => ?_)
        refine ru_get (v := .inr (some (413, p0))) hX dX3_come_134 rfl hp0 rfl (fun _ => ?_)
        refine ru_iload hX dX3_come_137 rfl (fun _ => ?_)
        obtain ⟨k16, h⟩ := h
        refine ru_iaload hX dX3_come_139 hp0 rfl k16 (fun _ => ?_)
        exact ru_callV (as := [.inr (some (3, p0)), .inl (σ.2 413 p0 a4)]) (rest := []) hX dX3_come_140 hc131 rfl (Nat.le_of_ble_eq_true rfl) (0, 0) hb h
      · have q17 := q
        replace h := h.1 q17
        refine ru_aload_n hX dX3_come_109 rfl (fun _ => ?_)
        refine ru_iload hX dX3_come_110 rfl (fun _ => ?_)
        refine ru_iload_n hX dX3_come_112 rfl (fun _ => ?_)
        exact ru_callV (as := [.inr (some (3, p0)), .inl a4, .inl a1]) (rest := []) hX dX3_come_113 hc165 rfl (Nat.le_of_ble_eq_true rfl) (0, 0) hb h
  · have q18 := q
    replace h := h.2 q18
    exact ru_return hX dX3_come_98 rfl hb (fun _ => h)
theorem bX3_come_89 {cs ss : Nat → Option (Nat × eh_T)} {lim : Nat × Nat} {Rt : Option eh_V → eh_S → Prop} {X : eh_X} (hX : eh_Ru eh_nX eh_fl3 eh_kn3 cs ss lim Rt 2 cX3_come X) {T131 : eh_T} (hc131 : cs 131 = some (2, T131)) {T165 : eh_T} (hc165 : cs 165 = some (3, T165)) {σ : eh_S} {b : Nat × Nat} (hb : b.1 ≤ lim.1 ∧ b.2 ≤ lim.2) {p0 : Int} {a1 : Int} {a2 : Int} {a3 : Int} {a4 : Int} {a5 : Int} {o6 : Option eh_V} {s0 : Int} (hp0 : 0 ≤ p0 ∧ p0 < 8) (h : eh_ok σ → ((σ.1 410 p0 = 0 → (-2147483648 ≤ a5 ∧ a5 < 2147483648) ∧ ((a5 = 0 → (-2147483648 ≤ s0 ∧ s0 < 2147483648) ∧ ((s0 = 0 → (0 ≤ a4 ∧ a4 < 200) ∧ (0 ≤ a3 ∧ a3 < 200) ∧ (σ.2 414 p0 a4 = 0 ∨ σ.2 414 p0 a4 = 1) ∧ X 15 [some (.inr (some (3, p0))), some (.inl a1), some (.inl a2), some (.inl (a3 + 1)), some (.inl (a4 + 1)), some (.inl a5), some (.inl s0)] [] (eh_sA (eh_sA σ 413 p0 a3 (σ.2 413 p0 a4)) 414 p0 a3 (σ.2 414 p0 a4)) b) ∧ (¬ s0 = 0 → (0 ≤ a4 ∧ a4 < 200) ∧ T131 [.inr (some (3, p0)), .inl (σ.2 413 p0 a4)] σ (0, 0) (fun r σ1 => X 143 [some (.inr (some (3, p0))), some (.inl a1), some (.inl a2), some (.inl a3), some (.inl a4), some (.inl a5), some (.inl s0)] (r.toList ++ []) σ1 b)))) ∧ (¬ a5 = 0 → (-2147483648 ≤ s0 ∧ s0 < 2147483648) ∧ ((s0 = 0 → T165 [.inr (some (3, p0)), .inl a4, .inl a1] σ (0, 0) (fun r σ1 => X 116 [some (.inr (some (3, p0))), some (.inl a1), some (.inl a2), some (.inl a3), some (.inl a4), some (.inl a5), some (.inl s0)] (r.toList ++ []) σ1 b)) ∧ (¬ s0 = 0 → (0 ≤ a4 ∧ a4 < 200) ∧ T131 [.inr (some (3, p0)), .inl (σ.2 413 p0 a4)] σ (0, 0) (fun r σ1 => X 143 [some (.inr (some (3, p0))), some (.inl a1), some (.inl a2), some (.inl a3), some (.inl a4), some (.inl a5), some (.inl s0)] (r.toList ++ []) σ1 b)))))) ∧ (¬ σ.1 410 p0 = 0 → Rt none σ))) : X 89 [some (.inr (some (3, p0))), some (.inl a1), some (.inl a2), some (.inl a3), some (.inl a4), some (.inl a5), o6] [.inl s0] σ b := by
  refine ru_ok hX (fun hok => ?_)
  replace h := h hok
  refine ru_istore (ls1 := [some (.inr (some (3, p0))), some (.inl a1), some (.inl a2), some (.inl a3), some (.inl a4), some (.inl a5), some (.inl s0)]) hX dX3_come_89 (Nat.le_of_ble_eq_true rfl) rfl (fun _ => ?_)
  refine ru_aload_n hX dX3_come_91 rfl (fun _ => ?_)
  refine ru_get (v := .inl (σ.1 410 p0)) hX dX3_come_92 rfl hp0 rfl (fun _ => ?_)
  refine ru_if_eq (tgt := 99) hX dX3_come_95 (by decide) (hok.1 _ _) (fun q => ?_) (fun q => ?_)
  · have q1 := q
    replace h := h.1 q1
    refine ru_iload hX dX3_come_99 rfl (fun _ => ?_)
    obtain ⟨k2, h⟩ := h
    refine ru_if_eq (tgt := 127) hX dX3_come_101 (by decide) k2 (fun q => ?_) (fun q => ?_)
    · have q3 := q
      replace h := h.1 q3
      refine ru_iload hX dX3_come_127 rfl (fun _ => ?_)
      obtain ⟨k4, h⟩ := h
      refine ru_if_eq (tgt := 177) hX dX3_come_129 (by decide) k4 (fun q => ?_) (fun q => ?_)
      · have q5 := q
        replace h := h.1 q5
        refine ru_aload_n hX dX3_come_177 rfl (fun _ => ?_)
        refine ru_get (v := .inr (some (413, p0))) hX dX3_come_178 rfl hp0 rfl (fun _ => ?_)
        refine ru_iload_n hX dX3_come_181 rfl (fun _ => ?_)
        refine ru_aload_n hX dX3_come_182 rfl (fun _ => ?_)
        refine ru_get (v := .inr (some (413, p0))) hX dX3_come_183 rfl hp0 rfl (fun _ => ?_)
        refine ru_iload hX dX3_come_186 rfl (fun _ => ?_)
        obtain ⟨k6, h⟩ := h
        refine ru_iaload hX dX3_come_188 hp0 rfl k6 (fun _ => ?_)
        obtain ⟨k7, h⟩ := h
        refine ru_iastore hX dX3_come_189 hp0 rfl k7 (hok.2 _ _ _ (by decide) (by decide) (by decide) (by decide)) (fun _ => ?_)
        refine ru_aload_n hX dX3_come_190 rfl (fun hok8 => ?_)
        refine ru_get (v := .inr (some (414, p0))) hX dX3_come_191 rfl hp0 rfl (fun _ => ?_)
        refine ru_iload_n hX dX3_come_194 rfl (fun _ => ?_)
        refine ru_iinc (ls1 := [some (.inr (some (3, p0))), some (.inl a1), some (.inl a2), some (.inl (a3 + 1)), some (.inl a4), some (.inl a5), some (.inl s0)]) hX dX3_come_195 rfl rfl (fun _ => ?_)
        refine ru_aload_n hX dX3_come_198 rfl (fun _ => ?_)
        refine ru_get (v := .inr (some (414, p0))) hX dX3_come_199 rfl hp0 rfl (fun _ => ?_)
        refine ru_iload hX dX3_come_202 rfl (fun _ => ?_)
        refine ru_zaload hX dX3_come_204 (by decide) hp0 rfl k6 (fun _ => ?_)
        obtain ⟨k9, h⟩ := h
        refine ru_zastore hX dX3_come_205 (by decide) hp0 rfl k7 k9 (fun _ => ?_)
        refine ru_iinc (ls1 := [some (.inr (some (3, p0))), some (.inl a1), some (.inl a2), some (.inl (a3 + 1)), some (.inl (a4 + 1)), some (.inl a5), some (.inl s0)]) hX dX3_come_206 rfl rfl (fun hok10 => ?_)
        refine ru_goto (tgt := 15) hX dX3_come_209 (by decide) ?_
        exact h
      · have q11 := q
        replace h := h.2 q11
        refine ru_aload_n hX dX3_come_132 rfl (fun _ => ?_)
        refine ru_aload_n hX dX3_come_133 rfl (fun _ => ?_)
        refine ru_get (v := .inr (some (413, p0))) hX dX3_come_134 rfl hp0 rfl (fun _ => ?_)
        refine ru_iload hX dX3_come_137 rfl (fun _ => ?_)
        obtain ⟨k12, h⟩ := h
        refine ru_iaload hX dX3_come_139 hp0 rfl k12 (fun _ => ?_)
        exact ru_callV (as := [.inr (some (3, p0)), .inl (σ.2 413 p0 a4)]) (rest := []) hX dX3_come_140 hc131 rfl (Nat.le_of_ble_eq_true rfl) (0, 0) hb h
    · have q13 := q
      replace h := h.2 q13
      refine ru_iload hX dX3_come_104 rfl (fun _ => ?_)
      obtain ⟨k14, h⟩ := h
      refine ru_if_ne (tgt := 127) hX dX3_come_106 (by decide) k14 (fun q => ?_) (fun q => ?_)
      · have q15 := q
        replace h := h.2 q15
        refine ru_iload hX dX3_come_127 rfl (fun _ => ?_)
        refine ru_if_eq (tgt := 177) hX dX3_come_129 (by decide) k14 (fun q => ?_) (fun q => ?_)
        · exact absurd q q15
        clear q
        refine ru_aload_n hX dX3_come_132 rfl (fun _ => ?_)
        refine ru_aload_n hX dX3_come_133 rfl (fun _ => ?_)
        refine ru_get (v := .inr (some (413, p0))) hX dX3_come_134 rfl hp0 rfl (fun _ => ?_)
        refine ru_iload hX dX3_come_137 rfl (fun _ => ?_)
        obtain ⟨k16, h⟩ := h
        refine ru_iaload hX dX3_come_139 hp0 rfl k16 (fun _ => ?_)
        exact ru_callV (as := [.inr (some (3, p0)), .inl (σ.2 413 p0 a4)]) (rest := []) hX dX3_come_140 hc131 rfl (Nat.le_of_ble_eq_true rfl) (0, 0) hb h
      · have q17 := q
        replace h := h.1 q17
        refine ru_aload_n hX dX3_come_109 rfl (fun _ => ?_)
        refine ru_iload hX dX3_come_110 rfl (fun _ => ?_)
        refine ru_iload_n hX dX3_come_112 rfl (fun _ => ?_)
        exact ru_callV (as := [.inr (some (3, p0)), .inl a4, .inl a1]) (rest := []) hX dX3_come_113 hc165 rfl (Nat.le_of_ble_eq_true rfl) (0, 0) hb h
  · have q18 := q
    replace h := h.2 q18
    exact ru_return hX dX3_come_98 rfl hb (fun _ => h)
theorem bX3_come_116 {cs ss : Nat → Option (Nat × eh_T)} {lim : Nat × Nat} {Rt : Option eh_V → eh_S → Prop} {X : eh_X} (hX : eh_Ru eh_nX eh_fl3 eh_kn3 cs ss lim Rt 2 cX3_come X) {T131 : eh_T} (hc131 : cs 131 = some (2, T131)) {σ : eh_S} {b : Nat × Nat} (hb : b.1 ≤ lim.1 ∧ b.2 ≤ lim.2) {p0 : Int} {a1 : Int} {a2 : Int} {a3 : Int} {a4 : Int} {o5 : Option eh_V} {a6 : Int} {s0 : Int} (hp0 : 0 ≤ p0 ∧ p0 < 8) (h : eh_ok σ → (-2147483648 ≤ s0 ∧ s0 < 2147483648) ∧ ((s0 = 0 → (-2147483648 ≤ a6 ∧ a6 < 2147483648) ∧ ((a6 = 0 → (0 ≤ a4 ∧ a4 < 200) ∧ (0 ≤ a3 ∧ a3 < 200) ∧ (σ.2 414 p0 a4 = 0 ∨ σ.2 414 p0 a4 = 1) ∧ X 15 [some (.inr (some (3, p0))), some (.inl a1), some (.inl a2), some (.inl (a3 + 1)), some (.inl (a4 + 1)), o5, some (.inl a6)] [] (eh_sA (eh_sA σ 413 p0 a3 (σ.2 413 p0 a4)) 414 p0 a3 (σ.2 414 p0 a4)) b) ∧ (¬ a6 = 0 → (0 ≤ a4 ∧ a4 < 200) ∧ T131 [.inr (some (3, p0)), .inl (σ.2 413 p0 a4)] σ (0, 0) (fun r σ1 => X 143 [some (.inr (some (3, p0))), some (.inl a1), some (.inl a2), some (.inl a3), some (.inl a4), o5, some (.inl a6)] (r.toList ++ []) σ1 b)))) ∧ (¬ s0 = 0 → (0 ≤ a4 ∧ a4 < 200) ∧ (-2147483648 ≤ a6 ∧ a6 < 2147483648) ∧ ((a6 = 0 → (0 ≤ a3 ∧ a3 < 200) ∧ ((eh_sA σ 414 p0 a4 1).2 414 p0 a4 = 0 ∨ (eh_sA σ 414 p0 a4 1).2 414 p0 a4 = 1) ∧ X 15 [some (.inr (some (3, p0))), some (.inl a1), some (.inl a2), some (.inl (a3 + 1)), some (.inl (a4 + 1)), o5, some (.inl a6)] [] (eh_sA (eh_sA (eh_sA σ 414 p0 a4 1) 413 p0 a3 (σ.2 413 p0 a4)) 414 p0 a3 ((eh_sA σ 414 p0 a4 1).2 414 p0 a4)) b) ∧ (¬ a6 = 0 → T131 [.inr (some (3, p0)), .inl (σ.2 413 p0 a4)] (eh_sA σ 414 p0 a4 1) (0, 0) (fun r σ1 => X 143 [some (.inr (some (3, p0))), some (.inl a1), some (.inl a2), some (.inl a3), some (.inl a4), o5, some (.inl a6)] (r.toList ++ []) σ1 b)))))) : X 116 [some (.inr (some (3, p0))), some (.inl a1), some (.inl a2), some (.inl a3), some (.inl a4), o5, some (.inl a6)] [.inl s0] σ b := by
  refine ru_ok hX (fun hok => ?_)
  replace h := h hok
  obtain ⟨k1, h⟩ := h
  refine ru_if_eq (tgt := 127) hX dX3_come_116 (by decide) k1 (fun q => ?_) (fun q => ?_)
  · have q2 := q
    replace h := h.1 q2
    refine ru_iload hX dX3_come_127 rfl (fun _ => ?_)
    obtain ⟨k3, h⟩ := h
    refine ru_if_eq (tgt := 177) hX dX3_come_129 (by decide) k3 (fun q => ?_) (fun q => ?_)
    · have q4 := q
      replace h := h.1 q4
      refine ru_aload_n hX dX3_come_177 rfl (fun _ => ?_)
      refine ru_get (v := .inr (some (413, p0))) hX dX3_come_178 rfl hp0 rfl (fun _ => ?_)
      refine ru_iload_n hX dX3_come_181 rfl (fun _ => ?_)
      refine ru_aload_n hX dX3_come_182 rfl (fun _ => ?_)
      refine ru_get (v := .inr (some (413, p0))) hX dX3_come_183 rfl hp0 rfl (fun _ => ?_)
      refine ru_iload hX dX3_come_186 rfl (fun _ => ?_)
      obtain ⟨k5, h⟩ := h
      refine ru_iaload hX dX3_come_188 hp0 rfl k5 (fun _ => ?_)
      obtain ⟨k6, h⟩ := h
      refine ru_iastore hX dX3_come_189 hp0 rfl k6 (hok.2 _ _ _ (by decide) (by decide) (by decide) (by decide)) (fun _ => ?_)
      refine ru_aload_n hX dX3_come_190 rfl (fun hok7 => ?_)
      refine ru_get (v := .inr (some (414, p0))) hX dX3_come_191 rfl hp0 rfl (fun _ => ?_)
      refine ru_iload_n hX dX3_come_194 rfl (fun _ => ?_)
      refine ru_iinc (ls1 := [some (.inr (some (3, p0))), some (.inl a1), some (.inl a2), some (.inl (a3 + 1)), some (.inl a4), o5, some (.inl a6)]) hX dX3_come_195 rfl rfl (fun _ => ?_)
      refine ru_aload_n hX dX3_come_198 rfl (fun _ => ?_)
      refine ru_get (v := .inr (some (414, p0))) hX dX3_come_199 rfl hp0 rfl (fun _ => ?_)
      refine ru_iload hX dX3_come_202 rfl (fun _ => ?_)
      refine ru_zaload hX dX3_come_204 (by decide) hp0 rfl k5 (fun _ => ?_)
      obtain ⟨k8, h⟩ := h
      refine ru_zastore hX dX3_come_205 (by decide) hp0 rfl k6 k8 (fun _ => ?_)
      refine ru_iinc (ls1 := [some (.inr (some (3, p0))), some (.inl a1), some (.inl a2), some (.inl (a3 + 1)), some (.inl (a4 + 1)), o5, some (.inl a6)]) hX dX3_come_206 rfl rfl (fun hok9 => ?_)
      refine ru_goto (tgt := 15) hX dX3_come_209 (by decide) ?_
      exact h
    · have q10 := q
      replace h := h.2 q10
      refine ru_aload_n hX dX3_come_132 rfl (fun _ => ?_)
      refine ru_aload_n hX dX3_come_133 rfl (fun _ => ?_)
      refine ru_get (v := .inr (some (413, p0))) hX dX3_come_134 rfl hp0 rfl (fun _ => ?_)
      refine ru_iload hX dX3_come_137 rfl (fun _ => ?_)
      obtain ⟨k11, h⟩ := h
      refine ru_iaload hX dX3_come_139 hp0 rfl k11 (fun _ => ?_)
      exact ru_callV (as := [.inr (some (3, p0)), .inl (σ.2 413 p0 a4)]) (rest := []) hX dX3_come_140 hc131 rfl (Nat.le_of_ble_eq_true rfl) (0, 0) hb h
  · have q12 := q
    replace h := h.2 q12
    refine ru_aload_n hX dX3_come_119 rfl (fun _ => ?_)
    refine ru_get (v := .inr (some (414, p0))) hX dX3_come_120 rfl hp0 rfl (fun _ => ?_)
    refine ru_iload hX dX3_come_123 rfl (fun _ => ?_)
    refine ru_iconst hX dX3_come_125 (fun _ => ?_)
    obtain ⟨k13, h⟩ := h
    refine ru_zastore hX dX3_come_126 (by decide) hp0 rfl k13 (by decide) (fun _ => ?_)
    refine ru_iload hX dX3_come_127 rfl (fun hok14 => ?_)
    obtain ⟨k15, h⟩ := h
    refine ru_if_eq (tgt := 177) hX dX3_come_129 (by decide) k15 (fun q => ?_) (fun q => ?_)
    · have q16 := q
      replace h := h.1 q16
      refine ru_aload_n hX dX3_come_177 rfl (fun _ => ?_)
      refine ru_get (v := .inr (some (413, p0))) hX dX3_come_178 rfl hp0 rfl (fun _ => ?_)
      refine ru_iload_n hX dX3_come_181 rfl (fun _ => ?_)
      refine ru_aload_n hX dX3_come_182 rfl (fun _ => ?_)
      refine ru_get (v := .inr (some (413, p0))) hX dX3_come_183 rfl hp0 rfl (fun _ => ?_)
      refine ru_iload hX dX3_come_186 rfl (fun _ => ?_)
      refine ru_iaload hX dX3_come_188 hp0 rfl k13 (fun _ => ?_)
      obtain ⟨k17, h⟩ := h
      refine ru_iastore hX dX3_come_189 hp0 rfl k17 (hok.2 _ _ _ (by decide) (by decide) (by decide) (by decide)) (fun _ => ?_)
      refine ru_aload_n hX dX3_come_190 rfl (fun hok18 => ?_)
      refine ru_get (v := .inr (some (414, p0))) hX dX3_come_191 rfl hp0 rfl (fun _ => ?_)
      refine ru_iload_n hX dX3_come_194 rfl (fun _ => ?_)
      refine ru_iinc (ls1 := [some (.inr (some (3, p0))), some (.inl a1), some (.inl a2), some (.inl (a3 + 1)), some (.inl a4), o5, some (.inl a6)]) hX dX3_come_195 rfl rfl (fun _ => ?_)
      refine ru_aload_n hX dX3_come_198 rfl (fun _ => ?_)
      refine ru_get (v := .inr (some (414, p0))) hX dX3_come_199 rfl hp0 rfl (fun _ => ?_)
      refine ru_iload hX dX3_come_202 rfl (fun _ => ?_)
      refine ru_zaload hX dX3_come_204 (by decide) hp0 rfl k13 (fun _ => ?_)
      obtain ⟨k19, h⟩ := h
      refine ru_zastore hX dX3_come_205 (by decide) hp0 rfl k17 k19 (fun _ => ?_)
      refine ru_iinc (ls1 := [some (.inr (some (3, p0))), some (.inl a1), some (.inl a2), some (.inl (a3 + 1)), some (.inl (a4 + 1)), o5, some (.inl a6)]) hX dX3_come_206 rfl rfl (fun hok20 => ?_)
      refine ru_goto (tgt := 15) hX dX3_come_209 (by decide) ?_
      exact h
    · have q21 := q
      replace h := h.2 q21
      refine ru_aload_n hX dX3_come_132 rfl (fun _ => ?_)
      refine ru_aload_n hX dX3_come_133 rfl (fun _ => ?_)
      refine ru_get (v := .inr (some (413, p0))) hX dX3_come_134 rfl hp0 rfl (fun _ => ?_)
      refine ru_iload hX dX3_come_137 rfl (fun _ => ?_)
      refine ru_iaload hX dX3_come_139 hp0 rfl k13 (fun _ => ?_)
      exact ru_callV (as := [.inr (some (3, p0)), .inl (σ.2 413 p0 a4)]) (rest := []) hX dX3_come_140 hc131 rfl (Nat.le_of_ble_eq_true rfl) (0, 0) hb h
theorem bX3_come_143 {cs ss : Nat → Option (Nat × eh_T)} {lim : Nat × Nat} {Rt : Option eh_V → eh_S → Prop} {X : eh_X} (hX : eh_Ru eh_nX eh_fl3 eh_kn3 cs ss lim Rt 2 cX3_come X) {T135 : eh_T} (hc135 : cs 135 = some (2, T135)) {σ : eh_S} {b : Nat × Nat} (hb : b.1 ≤ lim.1 ∧ b.2 ≤ lim.2) {p0 : Int} {a1 : Int} {a2 : Int} {a3 : Int} {a4 : Int} {o5 : Option eh_V} {o6 : Option eh_V} {s0 : Int} (hp0 : 0 ≤ p0 ∧ p0 < 8) (h : eh_ok σ → (-2147483648 ≤ s0 ∧ s0 < 2147483648) ∧ ((s0 = 0 → (0 ≤ a4 ∧ a4 < 200) ∧ (0 ≤ a3 ∧ a3 < 200) ∧ (σ.2 414 p0 a4 = 0 ∨ σ.2 414 p0 a4 = 1) ∧ X 15 [some (.inr (some (3, p0))), some (.inl a1), some (.inl a2), some (.inl (a3 + 1)), some (.inl (a4 + 1)), o5, o6] [] (eh_sA (eh_sA σ 413 p0 a3 (σ.2 413 p0 a4)) 414 p0 a3 (σ.2 414 p0 a4)) b) ∧ (¬ s0 = 0 → (0 ≤ a4 ∧ a4 < 200) ∧ ∃ bd10 : Nat × Nat, (b.1 + bd10.1 ≤ lim.1 ∧ b.2 + bd10.2 ≤ lim.2) ∧ T135 [.inr (some (3, p0)), .inl (σ.2 413 p0 a4)] σ bd10 (fun r σ1 => X 157 [some (.inr (some (3, p0))), some (.inl a1), some (.inl a2), some (.inl a3), some (.inl a4), o5, o6] (r.toList ++ []) σ1 (b.1 + bd10.1, b.2 + bd10.2))))) : X 143 [some (.inr (some (3, p0))), some (.inl a1), some (.inl a2), some (.inl a3), some (.inl a4), o5, o6] [.inl s0] σ b := by
  refine ru_ok hX (fun hok => ?_)
  replace h := h hok
  obtain ⟨k1, h⟩ := h
  refine ru_if_eq (tgt := 177) hX dX3_come_143 (by decide) k1 (fun q => ?_) (fun q => ?_)
  · have q2 := q
    replace h := h.1 q2
    refine ru_aload_n hX dX3_come_177 rfl (fun _ => ?_)
    refine ru_get (v := .inr (some (413, p0))) hX dX3_come_178 rfl hp0 rfl (fun _ => ?_)
    refine ru_iload_n hX dX3_come_181 rfl (fun _ => ?_)
    refine ru_aload_n hX dX3_come_182 rfl (fun _ => ?_)
    refine ru_get (v := .inr (some (413, p0))) hX dX3_come_183 rfl hp0 rfl (fun _ => ?_)
    refine ru_iload hX dX3_come_186 rfl (fun _ => ?_)
    obtain ⟨k3, h⟩ := h
    refine ru_iaload hX dX3_come_188 hp0 rfl k3 (fun _ => ?_)
    obtain ⟨k4, h⟩ := h
    refine ru_iastore hX dX3_come_189 hp0 rfl k4 (hok.2 _ _ _ (by decide) (by decide) (by decide) (by decide)) (fun _ => ?_)
    refine ru_aload_n hX dX3_come_190 rfl (fun hok5 => ?_)
    refine ru_get (v := .inr (some (414, p0))) hX dX3_come_191 rfl hp0 rfl (fun _ => ?_)
    refine ru_iload_n hX dX3_come_194 rfl (fun _ => ?_)
    refine ru_iinc (ls1 := [some (.inr (some (3, p0))), some (.inl a1), some (.inl a2), some (.inl (a3 + 1)), some (.inl a4), o5, o6]) hX dX3_come_195 rfl rfl (fun _ => ?_)
    refine ru_aload_n hX dX3_come_198 rfl (fun _ => ?_)
    refine ru_get (v := .inr (some (414, p0))) hX dX3_come_199 rfl hp0 rfl (fun _ => ?_)
    refine ru_iload hX dX3_come_202 rfl (fun _ => ?_)
    refine ru_zaload hX dX3_come_204 (by decide) hp0 rfl k3 (fun _ => ?_)
    obtain ⟨k6, h⟩ := h
    refine ru_zastore hX dX3_come_205 (by decide) hp0 rfl k4 k6 (fun _ => ?_)
    refine ru_iinc (ls1 := [some (.inr (some (3, p0))), some (.inl a1), some (.inl a2), some (.inl (a3 + 1)), some (.inl (a4 + 1)), o5, o6]) hX dX3_come_206 rfl rfl (fun hok7 => ?_)
    refine ru_goto (tgt := 15) hX dX3_come_209 (by decide) ?_
    exact h
  · have q8 := q
    replace h := h.2 q8
    refine ru_aload_n hX dX3_come_146 rfl (fun _ => ?_)
    refine ru_aload_n hX dX3_come_147 rfl (fun _ => ?_)
    refine ru_get (v := .inr (some (413, p0))) hX dX3_come_148 rfl hp0 rfl (fun _ => ?_)
    refine ru_iload hX dX3_come_151 rfl (fun _ => ?_)
    obtain ⟨k9, h⟩ := h
    refine ru_iaload hX dX3_come_153 hp0 rfl k9 (fun _ => ?_)
    obtain ⟨bd10, hbd, h⟩ := h
    exact ru_callV (as := [.inr (some (3, p0)), .inl (σ.2 413 p0 a4)]) (rest := []) hX dX3_come_154 hc135 rfl (Nat.le_of_ble_eq_true rfl) bd10 hbd h
theorem bX3_come_157 {cs ss : Nat → Option (Nat × eh_T)} {lim : Nat × Nat} {Rt : Option eh_V → eh_S → Prop} {X : eh_X} (hX : eh_Ru eh_nX eh_fl3 eh_kn3 cs ss lim Rt 2 cX3_come X) {T120 : eh_T} (hc120 : cs 120 = some (2, T120)) {σ : eh_S} {b : Nat × Nat} (hb : b.1 ≤ lim.1 ∧ b.2 ≤ lim.2) {p0 : Int} {a1 : Int} {a2 : Int} {a3 : Int} {a4 : Int} {o5 : Option eh_V} {o6 : Option eh_V} (hp0 : 0 ≤ p0 ∧ p0 < 8) (h : eh_ok σ → (0 ≤ a4 ∧ a4 < 200) ∧ T120 [.inr (some (1, 0)), .inl (σ.2 413 p0 a4)] σ (0, 0) (fun r σ1 => X 174 [some (.inr (some (3, p0))), some (.inl a1), some (.inl a2), some (.inl a3), some (.inl a4), o5, o6] (r.toList ++ []) σ1 b)) : X 157 [some (.inr (some (3, p0))), some (.inl a1), some (.inl a2), some (.inl a3), some (.inl a4), o5, o6] [] σ b := by
  refine ru_ok hX (fun hok => ?_)
  replace h := h hok
  refine ru_aload_n hX dX3_come_157 rfl (fun _ => ?_)
  refine ru_get (v := .inr (some (0, 0))) hX dX3_come_158 rfl hp0 rfl (fun _ => ?_)
  refine ru_get (v := .inr (some (1, 0))) hX dX3_come_161 rfl ⟨by decide, by decide⟩ rfl (fun _ => ?_)
  refine ru_aload_n hX dX3_come_164 rfl (fun _ => ?_)
  refine ru_get (v := .inr (some (413, p0))) hX dX3_come_165 rfl hp0 rfl (fun _ => ?_)
  refine ru_iload hX dX3_come_168 rfl (fun _ => ?_)
  obtain ⟨k1, h⟩ := h
  refine ru_iaload hX dX3_come_170 hp0 rfl k1 (fun _ => ?_)
  exact ru_callV (as := [.inr (some (1, 0)), .inl (σ.2 413 p0 a4)]) (rest := []) hX dX3_come_171 hc120 rfl (Nat.le_of_ble_eq_true rfl) (0, 0) hb h
theorem bX3_come_174 {cs ss : Nat → Option (Nat × eh_T)} {lim : Nat × Nat} {Rt : Option eh_V → eh_S → Prop} {X : eh_X} (hX : eh_Ru eh_nX eh_fl3 eh_kn3 cs ss lim Rt 2 cX3_come X)  {σ : eh_S} {b : Nat × Nat} (hb : b.1 ≤ lim.1 ∧ b.2 ≤ lim.2) {p0 : Int} {a1 : Int} {a2 : Int} {a3 : Int} {a4 : Int} {o5 : Option eh_V} {o6 : Option eh_V} (hp0 : 0 ≤ p0 ∧ p0 < 8) (h : eh_ok σ → X 15 [some (.inr (some (3, p0))), some (.inl a1), some (.inl a2), some (.inl a3), some (.inl (a4 + 1)), o5, o6] [] σ b) : X 174 [some (.inr (some (3, p0))), some (.inl a1), some (.inl a2), some (.inl a3), some (.inl a4), o5, o6] [] σ b := by
  refine ru_ok hX (fun hok => ?_)
  replace h := h hok
  refine ru_goto (tgt := 206) hX dX3_come_174 (by decide) ?_
  refine ru_iinc (ls1 := [some (.inr (some (3, p0))), some (.inl a1), some (.inl a2), some (.inl a3), some (.inl (a4 + 1)), o5, o6]) hX dX3_come_206 rfl rfl (fun _ => ?_)
  refine ru_goto (tgt := 15) hX dX3_come_209 (by decide) ?_
  exact h
theorem bX3_come_231 {cs ss : Nat → Option (Nat × eh_T)} {lim : Nat × Nat} {Rt : Option eh_V → eh_S → Prop} {X : eh_X} (hX : eh_Ru eh_nX eh_fl3 eh_kn3 cs ss lim Rt 2 cX3_come X) {T142 : eh_T} (hc142 : cs 142 = some (4, T142)) {σ : eh_S} {b : Nat × Nat} (hb : b.1 ≤ lim.1 ∧ b.2 ≤ lim.2) {p0 : Int} {a1 : Int} {o2 : Option eh_V} {o3 : Option eh_V} {o4 : Option eh_V} {o5 : Option eh_V} {o6 : Option eh_V} {s0 : Int} (hp0 : 0 ≤ p0 ∧ p0 < 8) (h : eh_ok σ → (-2147483648 ≤ s0 ∧ s0 < 2147483648) ∧ ((s0 = 0 → Rt none σ) ∧ (¬ s0 = 0 → T142 [.inr (some (1, 0)), .inl a1, .inl 0, .inl (-1)] σ (0, 0) (fun r σ1 => X 248 [some (.inr (some (3, p0))), some (.inl a1), o2, o3, o4, o5, o6] (r.toList ++ []) σ1 b)))) : X 231 [some (.inr (some (3, p0))), some (.inl a1), o2, o3, o4, o5, o6] [.inl s0] σ b := by
  refine ru_ok hX (fun hok => ?_)
  replace h := h hok
  obtain ⟨k1, h⟩ := h
  refine ru_if_ne (tgt := 235) hX dX3_come_231 (by decide) k1 (fun q => ?_) (fun q => ?_)
  · have q2 := q
    replace h := h.2 q2
    refine ru_aload_n hX dX3_come_235 rfl (fun _ => ?_)
    refine ru_get (v := .inr (some (0, 0))) hX dX3_come_236 rfl hp0 rfl (fun _ => ?_)
    refine ru_get (v := .inr (some (1, 0))) hX dX3_come_239 rfl ⟨by decide, by decide⟩ rfl (fun _ => ?_)
    refine ru_iload_n hX dX3_come_242 rfl (fun _ => ?_)
    refine ru_iconst hX dX3_come_243 (fun _ => ?_)
    refine ru_iconst hX dX3_come_244 (fun _ => ?_)
    exact ru_callV (as := [.inr (some (1, 0)), .inl a1, .inl 0, .inl (-1)]) (rest := []) hX dX3_come_245 hc142 rfl (Nat.le_of_ble_eq_true rfl) (0, 0) hb h
  · have q3 := q
    replace h := h.1 q3
    exact ru_return hX dX3_come_234 rfl hb (fun _ => h)
theorem bX3_come_248 {cs ss : Nat → Option (Nat × eh_T)} {lim : Nat × Nat} {Rt : Option eh_V → eh_S → Prop} {X : eh_X} (hX : eh_Ru eh_nX eh_fl3 eh_kn3 cs ss lim Rt 2 cX3_come X) {T131 : eh_T} (hc131 : cs 131 = some (2, T131)) {T146 : eh_T} (hc146 : cs 146 = some (2, T146)) {σ : eh_S} {b : Nat × Nat} (hb : b.1 ≤ lim.1 ∧ b.2 ≤ lim.2) {p0 : Int} {o1 : Option eh_V} {o2 : Option eh_V} {o3 : Option eh_V} {o4 : Option eh_V} {o5 : Option eh_V} {o6 : Option eh_V} {s0 : Int} (hp0 : 0 ≤ p0 ∧ p0 < 8) (h : eh_ok σ → ((σ.1 401 p0 = 0 → ∃ bd2 : Nat × Nat, (b.1 + bd2.1 ≤ lim.1 ∧ b.2 + bd2.2 ≤ lim.2) ∧ T146 [.inr (some (3, p0)), .inl s0] σ bd2 (fun r σ1 => X 318 [some (.inr (some (3, p0))), o1, o2, o3, some (.inl s0), o5, o6] (r.toList ++ []) σ1 (b.1 + bd2.1, b.2 + bd2.2))) ∧ (¬ σ.1 401 p0 = 0 → T131 [.inr (some (3, p0)), .inl s0] σ (0, 0) (fun r σ1 => X 263 [some (.inr (some (3, p0))), o1, o2, o3, some (.inl s0), o5, o6] (r.toList ++ []) σ1 b)))) : X 248 [some (.inr (some (3, p0))), o1, o2, o3, o4, o5, o6] [.inl s0] σ b := by
  refine ru_ok hX (fun hok => ?_)
  replace h := h hok
  refine ru_istore (ls1 := [some (.inr (some (3, p0))), o1, o2, o3, some (.inl s0), o5, o6]) hX dX3_come_248 (Nat.le_of_ble_eq_true rfl) rfl (fun _ => ?_)
  refine ru_aload_n hX dX3_come_250 rfl (fun _ => ?_)
  refine ru_get (v := .inl (σ.1 401 p0)) hX dX3_come_251 rfl hp0 rfl (fun _ => ?_)
  refine ru_if_eq (tgt := 312) hX dX3_come_254 (by decide) (hok.1 _ _) (fun q => ?_) (fun q => ?_)
  · have q1 := q
    replace h := h.1 q1
    refine ru_aload_n hX dX3_come_312 rfl (fun _ => ?_)
    refine ru_iload hX dX3_come_313 rfl (fun _ => ?_)
    obtain ⟨bd2, hbd, h⟩ := h
    exact ru_callV (as := [.inr (some (3, p0)), .inl s0]) (rest := []) hX dX3_come_315 hc146 rfl (Nat.le_of_ble_eq_true rfl) bd2 hbd h
  · have q3 := q
    replace h := h.2 q3
    refine ru_aload_n hX dX3_come_257 rfl (fun _ => ?_)
    refine ru_iload hX dX3_come_258 rfl (fun _ => ?_)
    exact ru_callV (as := [.inr (some (3, p0)), .inl s0]) (rest := []) hX dX3_come_260 hc131 rfl (Nat.le_of_ble_eq_true rfl) (0, 0) hb h
theorem bX3_come_263 {cs ss : Nat → Option (Nat × eh_T)} {lim : Nat × Nat} {Rt : Option eh_V → eh_S → Prop} {X : eh_X} (hX : eh_Ru eh_nX eh_fl3 eh_kn3 cs ss lim Rt 2 cX3_come X) {T120 : eh_T} (hc120 : cs 120 = some (2, T120)) {T135 : eh_T} (hc135 : cs 135 = some (2, T135)) {T146 : eh_T} (hc146 : cs 146 = some (2, T146)) {σ : eh_S} {b : Nat × Nat} (hb : b.1 ≤ lim.1 ∧ b.2 ≤ lim.2) {p0 : Int} {o1 : Option eh_V} {o2 : Option eh_V} {o3 : Option eh_V} {a4 : Int} {o5 : Option eh_V} {o6 : Option eh_V} {s0 : Int} (hp0 : 0 ≤ p0 ∧ p0 < 8) (h : eh_ok σ → (-2147483648 ≤ s0 ∧ s0 < 2147483648) ∧ ((s0 = 0 → ∃ bd3 : Nat × Nat, (b.1 + bd3.1 ≤ lim.1 ∧ b.2 + bd3.2 ≤ lim.2) ∧ T146 [.inr (some (3, p0)), .inl a4] σ bd3 (fun r σ1 => X 318 [some (.inr (some (3, p0))), o1, o2, o3, some (.inl a4), o5, o6] (r.toList ++ []) σ1 (b.1 + bd3.1, b.2 + bd3.2))) ∧ (¬ s0 = 0 → ((σ.1 415 p0 = 200 → T120 [.inr (some (1, 0)), .inl a4] σ (0, 0) (fun r σ1 => X 288 [some (.inr (some (3, p0))), o1, o2, o3, some (.inl a4), o5, o6] (r.toList ++ []) σ1 b)) ∧ (¬ σ.1 415 p0 = 200 → ∃ bd6 : Nat × Nat, (b.1 + bd6.1 ≤ lim.1 ∧ b.2 + bd6.2 ≤ lim.2) ∧ T135 [.inr (some (3, p0)), .inl a4] σ bd6 (fun r σ1 => X 299 [some (.inr (some (3, p0))), o1, o2, o3, some (.inl a4), o5, o6] (r.toList ++ []) σ1 (b.1 + bd6.1, b.2 + bd6.2))))))) : X 263 [some (.inr (some (3, p0))), o1, o2, o3, some (.inl a4), o5, o6] [.inl s0] σ b := by
  refine ru_ok hX (fun hok => ?_)
  replace h := h hok
  obtain ⟨k1, h⟩ := h
  refine ru_if_eq (tgt := 312) hX dX3_come_263 (by decide) k1 (fun q => ?_) (fun q => ?_)
  · have q2 := q
    replace h := h.1 q2
    refine ru_aload_n hX dX3_come_312 rfl (fun _ => ?_)
    refine ru_iload hX dX3_come_313 rfl (fun _ => ?_)
    obtain ⟨bd3, hbd, h⟩ := h
    exact ru_callV (as := [.inr (some (3, p0)), .inl a4]) (rest := []) hX dX3_come_315 hc146 rfl (Nat.le_of_ble_eq_true rfl) bd3 hbd h
  · have q4 := q
    replace h := h.2 q4
    refine ru_aload_n hX dX3_come_266 rfl (fun _ => ?_)
    refine ru_get (v := .inl (σ.1 415 p0)) hX dX3_come_267 rfl hp0 rfl (fun _ => ?_)
    refine ru_sipush hX dX3_come_270 (by decide) (fun _ => ?_)
    refine ru_icmp_ne (tgt := 293) hX dX3_come_273 (by decide) (hok.1 _ _) (by unfold eh_r; decide) (fun q => ?_) (fun q => ?_)
    · have q5 := q
      replace h := h.2 q5
      refine ru_aload_n hX dX3_come_293 rfl (fun _ => ?_)
      refine ru_iload hX dX3_come_294 rfl (fun _ => ?_)
      obtain ⟨bd6, hbd, h⟩ := h
      exact ru_callV (as := [.inr (some (3, p0)), .inl a4]) (rest := []) hX dX3_come_296 hc135 rfl (Nat.le_of_ble_eq_true rfl) bd6 hbd h
    · have q7 := q
      replace h := h.1 q7
      refine ru_aload_n hX dX3_come_276 rfl (fun _ => ?_)
      refine ru_get (v := .inr (some (0, 0))) hX dX3_come_277 rfl hp0 rfl (fun _ => ?_)
      refine ru_get (v := .inr (some (1, 0))) hX dX3_come_280 rfl ⟨by decide, by decide⟩ rfl (fun _ => ?_)
      refine ru_iload hX dX3_come_283 rfl (fun _ => ?_)
      exact ru_callV (as := [.inr (some (1, 0)), .inl a4]) (rest := []) hX dX3_come_285 hc120 rfl (Nat.le_of_ble_eq_true rfl) (0, 0) hb h
theorem bX3_come_288 {cs ss : Nat → Option (Nat × eh_T)} {lim : Nat × Nat} {Rt : Option eh_V → eh_S → Prop} {X : eh_X} (hX : eh_Ru eh_nX eh_fl3 eh_kn3 cs ss lim Rt 2 cX3_come X) {T128 : eh_T} (hc128 : cs 128 = some (1, T128)) {σ : eh_S} {b : Nat × Nat} (hb : b.1 ≤ lim.1 ∧ b.2 ≤ lim.2) {p0 : Int} {o1 : Option eh_V} {o2 : Option eh_V} {o3 : Option eh_V} {o4 : Option eh_V} {o5 : Option eh_V} {o6 : Option eh_V} (hp0 : 0 ≤ p0 ∧ p0 < 8) (h : eh_ok σ → T128 [.inr (some (3, p0))] σ (0, 0) (fun r σ1 => X 292 [some (.inr (some (3, p0))), o1, o2, o3, o4, o5, o6] (r.toList ++ []) σ1 b)) : X 288 [some (.inr (some (3, p0))), o1, o2, o3, o4, o5, o6] [] σ b := by
  refine ru_ok hX (fun hok => ?_)
  replace h := h hok
  refine ru_aload_n hX dX3_come_288 rfl (fun _ => ?_)
  exact ru_callV (as := [.inr (some (3, p0))]) (rest := []) hX dX3_come_289 hc128 rfl (Nat.le_of_ble_eq_true rfl) (0, 0) hb h
theorem bX3_come_292 {cs ss : Nat → Option (Nat × eh_T)} {lim : Nat × Nat} {Rt : Option eh_V → eh_S → Prop} {X : eh_X} (hX : eh_Ru eh_nX eh_fl3 eh_kn3 cs ss lim Rt 2 cX3_come X)  {σ : eh_S} {b : Nat × Nat} (hb : b.1 ≤ lim.1 ∧ b.2 ≤ lim.2) {o0 : Option eh_V} {o1 : Option eh_V} {o2 : Option eh_V} {o3 : Option eh_V} {o4 : Option eh_V} {o5 : Option eh_V} {o6 : Option eh_V}  (h : eh_ok σ → Rt none σ) : X 292 [o0, o1, o2, o3, o4, o5, o6] [] σ b := by
  refine ru_ok hX (fun hok => ?_)
  replace h := h hok
  exact ru_return hX dX3_come_292 rfl hb (fun _ => h)
theorem bX3_come_299 {cs ss : Nat → Option (Nat × eh_T)} {lim : Nat × Nat} {Rt : Option eh_V → eh_S → Prop} {X : eh_X} (hX : eh_Ru eh_nX eh_fl3 eh_kn3 cs ss lim Rt 2 cX3_come X) {T120 : eh_T} (hc120 : cs 120 = some (2, T120)) {σ : eh_S} {b : Nat × Nat} (hb : b.1 ≤ lim.1 ∧ b.2 ≤ lim.2) {p0 : Int} {o1 : Option eh_V} {o2 : Option eh_V} {o3 : Option eh_V} {a4 : Int} {o5 : Option eh_V} {o6 : Option eh_V} (hp0 : 0 ≤ p0 ∧ p0 < 8) (h : eh_ok σ → T120 [.inr (some (1, 0)), .inl a4] σ (0, 0) (fun r σ1 => X 311 [some (.inr (some (3, p0))), o1, o2, o3, some (.inl a4), o5, o6] (r.toList ++ []) σ1 b)) : X 299 [some (.inr (some (3, p0))), o1, o2, o3, some (.inl a4), o5, o6] [] σ b := by
  refine ru_ok hX (fun hok => ?_)
  replace h := h hok
  refine ru_aload_n hX dX3_come_299 rfl (fun _ => ?_)
  refine ru_get (v := .inr (some (0, 0))) hX dX3_come_300 rfl hp0 rfl (fun _ => ?_)
  refine ru_get (v := .inr (some (1, 0))) hX dX3_come_303 rfl ⟨by decide, by decide⟩ rfl (fun _ => ?_)
  refine ru_iload hX dX3_come_306 rfl (fun _ => ?_)
  exact ru_callV (as := [.inr (some (1, 0)), .inl a4]) (rest := []) hX dX3_come_308 hc120 rfl (Nat.le_of_ble_eq_true rfl) (0, 0) hb h
theorem bX3_come_311 {cs ss : Nat → Option (Nat × eh_T)} {lim : Nat × Nat} {Rt : Option eh_V → eh_S → Prop} {X : eh_X} (hX : eh_Ru eh_nX eh_fl3 eh_kn3 cs ss lim Rt 2 cX3_come X)  {σ : eh_S} {b : Nat × Nat} (hb : b.1 ≤ lim.1 ∧ b.2 ≤ lim.2) {o0 : Option eh_V} {o1 : Option eh_V} {o2 : Option eh_V} {o3 : Option eh_V} {o4 : Option eh_V} {o5 : Option eh_V} {o6 : Option eh_V}  (h : eh_ok σ → Rt none σ) : X 311 [o0, o1, o2, o3, o4, o5, o6] [] σ b := by
  refine ru_ok hX (fun hok => ?_)
  replace h := h hok
  exact ru_return hX dX3_come_311 rfl hb (fun _ => h)
theorem bX3_come_318 {cs ss : Nat → Option (Nat × eh_T)} {lim : Nat × Nat} {Rt : Option eh_V → eh_S → Prop} {X : eh_X} (hX : eh_Ru eh_nX eh_fl3 eh_kn3 cs ss lim Rt 2 cX3_come X)  {σ : eh_S} {b : Nat × Nat} (hb : b.1 ≤ lim.1 ∧ b.2 ≤ lim.2) {o0 : Option eh_V} {o1 : Option eh_V} {o2 : Option eh_V} {o3 : Option eh_V} {o4 : Option eh_V} {o5 : Option eh_V} {o6 : Option eh_V}  (h : eh_ok σ → Rt none σ) : X 318 [o0, o1, o2, o3, o4, o5, o6] [] σ b := by
  refine ru_ok hX (fun hok => ?_)
  replace h := h hok
  exact ru_return hX dX3_come_318 rfl hb (fun _ => h)
theorem bX3_age_0 {cs ss : Nat → Option (Nat × eh_T)} {lim : Nat × Nat} {Rt : Option eh_V → eh_S → Prop} {X : eh_X} (hX : eh_Ru eh_nX eh_fl3 eh_kn3 cs ss lim Rt 2 cX3_age X)  {σ : eh_S}  {p0 : Int} {a1 : Int} {o2 : Option eh_V} {o3 : Option eh_V} (hp0 : 0 ≤ p0 ∧ p0 < 8) (h : eh_ok σ → X 4 [some (.inr (some (3, p0))), some (.inl a1), some (.inl 0), some (.inl 0)] [] σ (0, 0)) : X 0 [some (.inr (some (3, p0))), some (.inl a1), o2, o3] [] σ (0, 0) := by
  refine ru_ok hX (fun hok => ?_)
  replace h := h hok
  refine ru_iconst hX dX3_age_0 (fun _ => ?_)
  refine ru_istore_n (ls1 := [some (.inr (some (3, p0))), some (.inl a1), some (.inl 0), o3]) hX dX3_age_1 (Nat.le_of_ble_eq_true rfl) rfl (fun _ => ?_)
  refine ru_iconst hX dX3_age_2 (fun _ => ?_)
  refine ru_istore_n (ls1 := [some (.inr (some (3, p0))), some (.inl a1), some (.inl 0), some (.inl 0)]) hX dX3_age_3 (Nat.le_of_ble_eq_true rfl) rfl (fun _ => ?_)
  exact h
theorem bX3_age_4 {cs ss : Nat → Option (Nat × eh_T)} {lim : Nat × Nat} {Rt : Option eh_V → eh_S → Prop} {X : eh_X} (hX : eh_Ru eh_nX eh_fl3 eh_kn3 cs ss lim Rt 2 cX3_age X) {T114 : eh_T} (hc114 : cs 114 = some (2, T114)) {σ : eh_S}  {p0 : Int} {a1 : Int} {a2 : Int} {a3 : Int} (hp0 : 0 ≤ p0 ∧ p0 < 8) (h : eh_ok σ → (-2147483648 ≤ a3 ∧ a3 < 2147483648) ∧ ((σ.1 415 p0 ≤ a3 → (-2147483648 ≤ a2 ∧ a2 < 2147483648) ∧ Rt none (eh_sV σ 415 p0 a2)) ∧ (¬ σ.1 415 p0 ≤ a3 → (0 ≤ a1 ∧ a1 < 1000) ∧ (0 ≤ a3 ∧ a3 < 200) ∧ T114 [.inr (some (1, 0)), .inl (σ.2 413 p0 a3)] σ (0, 0) (fun r σ1 => X 44 [some (.inr (some (3, p0))), some (.inl a1), some (.inl a2), some (.inl a3)] (r.toList ++ [.inr (some (102, 0)), .inl (σ.2 102 0 a1)]) σ1 (0, 0))))) : X 4 [some (.inr (some (3, p0))), some (.inl a1), some (.inl a2), some (.inl a3)] [] σ (0, 0) := by
  refine ru_ok hX (fun hok => ?_)
  replace h := h hok
  refine ru_iload_n hX dX3_age_4 rfl (fun _ => ?_)
  refine ru_aload_n hX dX3_age_5 rfl (fun _ => ?_)
  refine ru_get (v := .inl (σ.1 415 p0)) hX dX3_age_6 rfl hp0 rfl (fun _ => ?_)
  obtain ⟨k1, h⟩ := h
  refine ru_icmp_ge (tgt := 105) hX dX3_age_9 (by decide) k1 (hok.1 _ _) (fun q => ?_) (fun q => ?_)
  · have q2 := q
    replace h := h.1 q2
    refine ru_aload_n hX dX3_age_105 rfl (fun _ => ?_)
    refine ru_iload_n hX dX3_age_106 rfl (fun _ => ?_)
    obtain ⟨k3, h⟩ := h
    refine ru_putI (id := 415) hX dX3_age_107 rfl hp0 rfl k3 rfl (fun _ => ?_)
    exact ru_return hX dX3_age_110 rfl ⟨Nat.zero_le _, Nat.zero_le _⟩ (fun _ => h)
  · have q4 := q
    replace h := h.2 q4
    refine ru_aload_n hX dX3_age_12 rfl (fun _ => ?_)
    refine ru_get (v := .inr (some (0, 0))) hX dX3_age_13 rfl hp0 rfl (fun _ => ?_)
    refine ru_get (v := .inr (some (102, 0))) hX dX3_age_16 rfl ⟨by decide, by decide⟩ rfl (fun _ => ?_)
    refine ru_iload_n hX dX3_age_19 rfl (fun _ => ?_)
    obtain ⟨k5, h⟩ := h
    refine ru_iaload hX dX3_age_20 ⟨by decide, by decide⟩ rfl k5 (fun _ => ?_)
    refine ru_aload_n hX dX3_age_21 rfl (fun _ => ?_)
    refine ru_get (v := .inr (some (0, 0))) hX dX3_age_22 rfl hp0 rfl (fun _ => ?_)
    refine ru_get (v := .inr (some (102, 0))) hX dX3_age_25 rfl ⟨by decide, by decide⟩ rfl (fun _ => ?_)
    refine ru_aload_n hX dX3_age_28 rfl (fun _ => ?_)
    refine ru_get (v := .inr (some (0, 0))) hX dX3_age_29 rfl hp0 rfl (fun _ => ?_)
    refine ru_get (v := .inr (some (1, 0))) hX dX3_age_32 rfl ⟨by decide, by decide⟩ rfl (fun _ => ?_)
    refine ru_aload_n hX dX3_age_35 rfl (fun _ => ?_)
    refine ru_get (v := .inr (some (413, p0))) hX dX3_age_36 rfl hp0 rfl (fun _ => ?_)
    refine ru_iload_n hX dX3_age_39 rfl (fun _ => ?_)
    obtain ⟨k6, h⟩ := h
    refine ru_iaload hX dX3_age_40 hp0 rfl k6 (fun _ => ?_)
    exact ru_callV (as := [.inr (some (1, 0)), .inl (σ.2 413 p0 a3)]) (rest := [.inr (some (102, 0)), .inl (σ.2 102 0 a1)]) hX dX3_age_41 hc114 rfl (Nat.le_of_ble_eq_true rfl) (0, 0) ⟨Nat.zero_le _, Nat.zero_le _⟩ h
theorem bX3_age_44 {cs ss : Nat → Option (Nat × eh_T)} {lim : Nat × Nat} {Rt : Option eh_V → eh_S → Prop} {X : eh_X} (hX : eh_Ru eh_nX eh_fl3 eh_kn3 cs ss lim Rt 2 cX3_age X) {T120 : eh_T} (hc120 : cs 120 = some (2, T120)) {σ : eh_S}  {p0 : Int} {a1 : Int} {a2 : Int} {a3 : Int} {s0 : Int} {s2 : Int} (hp0 : 0 ≤ p0 ∧ p0 < 8) (h : eh_ok σ → (0 ≤ s0 ∧ s0 < 1000) ∧ (-2147483648 ≤ s2 - (σ.2 102 0 s0) ∧ s2 - (σ.2 102 0 s0) < 2147483648) ∧ ((s2 - (σ.2 102 0 s0) ≤ σ.1 400 p0 → (0 ≤ a3 ∧ a3 < 200) ∧ (0 ≤ a2 ∧ a2 < 200) ∧ (σ.2 414 p0 a3 = 0 ∨ σ.2 414 p0 a3 = 1) ∧ X 4 [some (.inr (some (3, p0))), some (.inl a1), some (.inl (a2 + 1)), some (.inl (a3 + 1))] [] (eh_sA (eh_sA σ 413 p0 a2 (σ.2 413 p0 a3)) 414 p0 a2 (σ.2 414 p0 a3)) (0, 0)) ∧ (¬ s2 - (σ.2 102 0 s0) ≤ σ.1 400 p0 → (0 ≤ a3 ∧ a3 < 200) ∧ T120 [.inr (some (1, 0)), .inl (σ.2 413 p0 a3)] σ (0, 0) (fun r σ1 => X 69 [some (.inr (some (3, p0))), some (.inl a1), some (.inl a2), some (.inl a3)] (r.toList ++ []) σ1 (0, 0))))) : X 44 [some (.inr (some (3, p0))), some (.inl a1), some (.inl a2), some (.inl a3)] [.inl s0, .inr (some (102, 0)), .inl s2] σ (0, 0) := by
  refine ru_ok hX (fun hok => ?_)
  replace h := h hok
  obtain ⟨k1, h⟩ := h
  refine ru_iaload hX dX3_age_44 ⟨by decide, by decide⟩ rfl k1 (fun _ => ?_)
  refine ru_isub hX dX3_age_45 (fun _ => ?_)
  refine ru_aload_n hX dX3_age_46 rfl (fun _ => ?_)
  refine ru_get (v := .inl (σ.1 400 p0)) hX dX3_age_47 rfl hp0 rfl (fun _ => ?_)
  obtain ⟨k2, h⟩ := h
  refine ru_icmp_le (tgt := 72) hX dX3_age_50 (by decide) k2 (hok.1 _ _) (fun q => ?_) (fun q => ?_)
  · have q3 := q
    replace h := h.1 q3
    refine ru_aload_n hX dX3_age_72 rfl (fun _ => ?_)
    refine ru_get (v := .inr (some (413, p0))) hX dX3_age_73 rfl hp0 rfl (fun _ => ?_)
    refine ru_iload_n hX dX3_age_76 rfl (fun _ => ?_)
    refine ru_aload_n hX dX3_age_77 rfl (fun _ => ?_)
    refine ru_get (v := .inr (some (413, p0))) hX dX3_age_78 rfl hp0 rfl (fun _ => ?_)
    refine ru_iload_n hX dX3_age_81 rfl (fun _ => ?_)
    obtain ⟨k4, h⟩ := h
    refine ru_iaload hX dX3_age_82 hp0 rfl k4 (fun _ => ?_)
    obtain ⟨k5, h⟩ := h
    refine ru_iastore hX dX3_age_83 hp0 rfl k5 (hok.2 _ _ _ (by decide) (by decide) (by decide) (by decide)) (fun _ => ?_)
    refine ru_aload_n hX dX3_age_84 rfl (fun hok6 => ?_)
    refine ru_get (v := .inr (some (414, p0))) hX dX3_age_85 rfl hp0 rfl (fun _ => ?_)
    refine ru_iload_n hX dX3_age_88 rfl (fun _ => ?_)
    refine ru_iinc (ls1 := [some (.inr (some (3, p0))), some (.inl a1), some (.inl (a2 + 1)), some (.inl a3)]) hX dX3_age_89 rfl rfl (fun _ => ?_)
    refine ru_aload_n hX dX3_age_92 rfl (fun _ => ?_)
    refine ru_get (v := .inr (some (414, p0))) hX dX3_age_93 rfl hp0 rfl (fun _ => ?_)
    refine ru_iload_n hX dX3_age_96 rfl (fun _ => ?_)
    refine ru_zaload hX dX3_age_97 (by decide) hp0 rfl k4 (fun _ => ?_)
    obtain ⟨k7, h⟩ := h
    refine ru_zastore hX dX3_age_98 (by decide) hp0 rfl k5 k7 (fun _ => ?_)
    refine ru_iinc (ls1 := [some (.inr (some (3, p0))), some (.inl a1), some (.inl (a2 + 1)), some (.inl (a3 + 1))]) hX dX3_age_99 rfl rfl (fun hok8 => ?_)
    refine ru_goto (tgt := 4) hX dX3_age_102 (by decide) ?_
    exact h
  · have q9 := q
    replace h := h.2 q9
    refine ru_aload_n hX dX3_age_53 rfl (fun _ => ?_)
    refine ru_get (v := .inr (some (0, 0))) hX dX3_age_54 rfl hp0 rfl (fun _ => ?_)
    refine ru_get (v := .inr (some (1, 0))) hX dX3_age_57 rfl ⟨by decide, by decide⟩ rfl (fun _ => ?_)
    refine ru_aload_n hX dX3_age_60 rfl (fun _ => ?_)
    refine ru_get (v := .inr (some (413, p0))) hX dX3_age_61 rfl hp0 rfl (fun _ => ?_)
    refine ru_iload_n hX dX3_age_64 rfl (fun _ => ?_)
    obtain ⟨k10, h⟩ := h
    refine ru_iaload hX dX3_age_65 hp0 rfl k10 (fun _ => ?_)
    exact ru_callV (as := [.inr (some (1, 0)), .inl (σ.2 413 p0 a3)]) (rest := []) hX dX3_age_66 hc120 rfl (Nat.le_of_ble_eq_true rfl) (0, 0) ⟨Nat.zero_le _, Nat.zero_le _⟩ h
theorem bX3_age_69 {cs ss : Nat → Option (Nat × eh_T)} {lim : Nat × Nat} {Rt : Option eh_V → eh_S → Prop} {X : eh_X} (hX : eh_Ru eh_nX eh_fl3 eh_kn3 cs ss lim Rt 2 cX3_age X)  {σ : eh_S}  {p0 : Int} {a1 : Int} {a2 : Int} {a3 : Int} (hp0 : 0 ≤ p0 ∧ p0 < 8) (h : eh_ok σ → X 4 [some (.inr (some (3, p0))), some (.inl a1), some (.inl a2), some (.inl (a3 + 1))] [] σ (0, 0)) : X 69 [some (.inr (some (3, p0))), some (.inl a1), some (.inl a2), some (.inl a3)] [] σ (0, 0) := by
  refine ru_ok hX (fun hok => ?_)
  replace h := h hok
  refine ru_goto (tgt := 99) hX dX3_age_69 (by decide) ?_
  refine ru_iinc (ls1 := [some (.inr (some (3, p0))), some (.inl a1), some (.inl a2), some (.inl (a3 + 1))]) hX dX3_age_99 rfl rfl (fun _ => ?_)
  refine ru_goto (tgt := 4) hX dX3_age_102 (by decide) ?_
  exact h
theorem bX3_hasKey_0 {cs ss : Nat → Option (Nat × eh_T)} {lim : Nat × Nat} {Rt : Option eh_V → eh_S → Prop} {X : eh_X} (hX : eh_Ru eh_nX eh_fl3 eh_kn3 cs ss lim Rt 1 cX3_hasKey X)  {σ : eh_S}  {p0 : Int} {a1 : Int} {a2 : Int} (hp0 : 0 ≤ p0 ∧ p0 < 8) (h : eh_ok σ → ((σ.1 402 p0 = (-1) → Rt (some (.inl 1)) σ) ∧ (¬ σ.1 402 p0 = (-1) → (0 ≤ (a1 * 4) + (σ.1 402 p0) ∧ (a1 * 4) + (σ.1 402 p0) < 4000) ∧ (0 ≤ (a2 * 4) + (σ.1 402 p0) ∧ (a2 * 4) + (σ.1 402 p0) < 4000) ∧ ((σ.2 104 0 ((a1 * 4) + (σ.1 402 p0)) = σ.2 104 0 ((a2 * 4) + (σ.1 402 p0)) → Rt (some (.inl 1)) σ) ∧ (¬ σ.2 104 0 ((a1 * 4) + (σ.1 402 p0)) = σ.2 104 0 ((a2 * 4) + (σ.1 402 p0)) → Rt (some (.inl 0)) σ))))) : X 0 [some (.inr (some (3, p0))), some (.inl a1), some (.inl a2)] [] σ (0, 0) := by
  refine ru_ok hX (fun hok => ?_)
  replace h := h hok
  refine ru_aload_n hX dX3_hasKey_0 rfl (fun _ => ?_)
  refine ru_get (v := .inl (σ.1 402 p0)) hX dX3_hasKey_1 rfl hp0 rfl (fun _ => ?_)
  refine ru_iconst hX dX3_hasKey_4 (fun _ => ?_)
  refine ru_icmp_eq (tgt := 43) hX dX3_hasKey_5 (by decide) (hok.1 _ _) (by unfold eh_r; decide) (fun q => ?_) (fun q => ?_)
  · have q1 := q
    replace h := h.1 q1
    refine ru_iconst hX dX3_hasKey_43 (fun _ => ?_)
    refine ru_goto (tgt := 48) hX dX3_hasKey_44 (by decide) ?_
    exact ru_ireturn hX dX3_hasKey_48 (Or.inr ⟨rfl, by decide⟩) ⟨Nat.zero_le _, Nat.zero_le _⟩ (fun _ => h)
  · have q2 := q
    replace h := h.2 q2
    refine ru_aload_n hX dX3_hasKey_8 rfl (fun _ => ?_)
    refine ru_get (v := .inr (some (0, 0))) hX dX3_hasKey_9 rfl hp0 rfl (fun _ => ?_)
    refine ru_get (v := .inr (some (104, 0))) hX dX3_hasKey_12 rfl ⟨by decide, by decide⟩ rfl (fun _ => ?_)
    refine ru_iload_n hX dX3_hasKey_15 rfl (fun _ => ?_)
    refine ru_iconst hX dX3_hasKey_16 (fun _ => ?_)
    refine ru_imul hX dX3_hasKey_17 (fun _ => ?_)
    refine ru_aload_n hX dX3_hasKey_18 rfl (fun _ => ?_)
    refine ru_get (v := .inl (σ.1 402 p0)) hX dX3_hasKey_19 rfl hp0 rfl (fun _ => ?_)
    refine ru_iadd hX dX3_hasKey_22 (fun _ => ?_)
    obtain ⟨k3, h⟩ := h
    refine ru_iaload hX dX3_hasKey_23 ⟨by decide, by decide⟩ rfl k3 (fun _ => ?_)
    refine ru_aload_n hX dX3_hasKey_24 rfl (fun _ => ?_)
    refine ru_get (v := .inr (some (0, 0))) hX dX3_hasKey_25 rfl hp0 rfl (fun _ => ?_)
    refine ru_get (v := .inr (some (104, 0))) hX dX3_hasKey_28 rfl ⟨by decide, by decide⟩ rfl (fun _ => ?_)
    refine ru_iload_n hX dX3_hasKey_31 rfl (fun _ => ?_)
    refine ru_iconst hX dX3_hasKey_32 (fun _ => ?_)
    refine ru_imul hX dX3_hasKey_33 (fun _ => ?_)
    refine ru_aload_n hX dX3_hasKey_34 rfl (fun _ => ?_)
    refine ru_get (v := .inl (σ.1 402 p0)) hX dX3_hasKey_35 rfl hp0 rfl (fun _ => ?_)
    refine ru_iadd hX dX3_hasKey_38 (fun _ => ?_)
    obtain ⟨k4, h⟩ := h
    refine ru_iaload hX dX3_hasKey_39 ⟨by decide, by decide⟩ rfl k4 (fun _ => ?_)
    refine ru_icmp_ne (tgt := 47) hX dX3_hasKey_40 (by decide) (hok.2 _ _ _ (by decide) (by decide) (by decide) (by decide)) (hok.2 _ _ _ (by decide) (by decide) (by decide) (by decide)) (fun q => ?_) (fun q => ?_)
    · have q5 := q
      replace h := h.2 q5
      refine ru_iconst hX dX3_hasKey_47 (fun _ => ?_)
      exact ru_ireturn hX dX3_hasKey_48 (Or.inr ⟨rfl, by decide⟩) ⟨Nat.zero_le _, Nat.zero_le _⟩ (fun _ => h)
    · have q6 := q
      replace h := h.1 q6
      refine ru_iconst hX dX3_hasKey_43 (fun _ => ?_)
      refine ru_goto (tgt := 48) hX dX3_hasKey_44 (by decide) ?_
      exact ru_ireturn hX dX3_hasKey_48 (Or.inr ⟨rfl, by decide⟩) ⟨Nat.zero_le _, Nat.zero_le _⟩ (fun _ => h)
theorem bX3_every_0 {cs ss : Nat → Option (Nat × eh_T)} {lim : Nat × Nat} {Rt : Option eh_V → eh_S → Prop} {X : eh_X} (hX : eh_Ru eh_nX eh_fl3 eh_kn3 cs ss lim Rt 2 cX3_every X)  {σ : eh_S} {b : Nat × Nat} (hb : b.1 ≤ lim.1 ∧ b.2 ≤ lim.2) {p0 : Int} {a1 : Int} {a2 : Int} {o3 : Option eh_V} {o4 : Option eh_V} (hp0 : 0 ≤ p0 ∧ p0 < 8) (h : eh_ok σ → X 2 [some (.inr (some (3, p0))), some (.inl a1), some (.inl a2), some (.inl 0), o4] [] σ b) : X 0 [some (.inr (some (3, p0))), some (.inl a1), some (.inl a2), o3, o4] [] σ b := by
  refine ru_ok hX (fun hok => ?_)
  replace h := h hok
  refine ru_iconst hX dX3_every_0 (fun _ => ?_)
  refine ru_istore_n (ls1 := [some (.inr (some (3, p0))), some (.inl a1), some (.inl a2), some (.inl 0), o4]) hX dX3_every_1 (Nat.le_of_ble_eq_true rfl) rfl (fun _ => ?_)
  exact h
theorem bX3_every_2 {cs ss : Nat → Option (Nat × eh_T)} {lim : Nat × Nat} {Rt : Option eh_V → eh_S → Prop} {X : eh_X} (hX : eh_Ru eh_nX eh_fl3 eh_kn3 cs ss lim Rt 2 cX3_every X) {T138 : eh_T} (hc138 : cs 138 = some (5, T138)) {σ : eh_S} {b : Nat × Nat} (hb : b.1 ≤ lim.1 ∧ b.2 ≤ lim.2) {p0 : Int} {a1 : Int} {a2 : Int} {a3 : Int} {o4 : Option eh_V} (hp0 : 0 ≤ p0 ∧ p0 < 8) (h : eh_ok σ → (-2147483648 ≤ a3 ∧ a3 < 2147483648) ∧ ((a3 = (-1) → Rt none σ) ∧ (¬ a3 = (-1) → ((σ.1 410 p0 = 0 → (0 ≤ a1 ∧ a1 < 200) ∧ T138 [.inr (some (3, p0)), .inl (σ.2 413 p0 a1), .inl (σ.2 414 p0 a1), .inl a2, .inl a3] σ (0, 0) (fun r σ1 => X 32 [some (.inr (some (3, p0))), some (.inl a1), some (.inl a2), some (.inl a3), o4] (r.toList ++ []) σ1 b)) ∧ (¬ σ.1 410 p0 = 0 → Rt none σ))))) : X 2 [some (.inr (some (3, p0))), some (.inl a1), some (.inl a2), some (.inl a3), o4] [] σ b := by
  refine ru_ok hX (fun hok => ?_)
  replace h := h hok
  refine ru_iload_n hX dX3_every_2 rfl (fun _ => ?_)
  refine ru_iconst hX dX3_every_3 (fun _ => ?_)
  obtain ⟨k1, h⟩ := h
  refine ru_icmp_eq (tgt := 98) hX dX3_every_4 (by decide) k1 (by unfold eh_r; decide) (fun q => ?_) (fun q => ?_)
  · have q2 := q
    replace h := h.1 q2
    exact ru_return hX dX3_every_98 rfl hb (fun _ => h)
  · have q3 := q
    replace h := h.2 q3
    refine ru_aload_n hX dX3_every_7 rfl (fun _ => ?_)
    refine ru_get (v := .inl (σ.1 410 p0)) hX dX3_every_8 rfl hp0 rfl (fun _ => ?_)
    refine ru_if_ne (tgt := 98) hX dX3_every_11 (by decide) (hok.1 _ _) (fun q => ?_) (fun q => ?_)
    · have q4 := q
      replace h := h.2 q4
      exact ru_return hX dX3_every_98 rfl hb (fun _ => h)
    · have q5 := q
      replace h := h.1 q5
      refine ru_aload_n hX dX3_every_14 rfl (fun _ => ?_)
      refine ru_aload_n hX dX3_every_15 rfl (fun _ => ?_)
      refine ru_get (v := .inr (some (413, p0))) hX dX3_every_16 rfl hp0 rfl (fun _ => ?_)
      refine ru_iload_n hX dX3_every_19 rfl (fun _ => ?_)
      obtain ⟨k6, h⟩ := h
      refine ru_iaload hX dX3_every_20 hp0 rfl k6 (fun _ => ?_)
      refine ru_aload_n hX dX3_every_21 rfl (fun _ => ?_)
      refine ru_get (v := .inr (some (414, p0))) hX dX3_every_22 rfl hp0 rfl (fun _ => ?_)
      refine ru_iload_n hX dX3_every_25 rfl (fun _ => ?_)
      refine ru_zaload hX dX3_every_26 (by decide) hp0 rfl k6 (fun _ => ?_)
      refine ru_iload_n hX dX3_every_27 rfl (fun _ => ?_)
      refine ru_iload_n hX dX3_every_28 rfl (fun _ => ?_)
      exact ru_callV (as := [.inr (some (3, p0)), .inl (σ.2 413 p0 a1), .inl (σ.2 414 p0 a1), .inl a2, .inl a3]) (rest := []) hX dX3_every_29 hc138 rfl (Nat.le_of_ble_eq_true rfl) (0, 0) hb h
theorem bX3_every_32 {cs ss : Nat → Option (Nat × eh_T)} {lim : Nat × Nat} {Rt : Option eh_V → eh_S → Prop} {X : eh_X} (hX : eh_Ru eh_nX eh_fl3 eh_kn3 cs ss lim Rt 2 cX3_every X) {T142 : eh_T} (hc142 : cs 142 = some (4, T142)) {σ : eh_S} {b : Nat × Nat} (hb : b.1 ≤ lim.1 ∧ b.2 ≤ lim.2) {p0 : Int} {a1 : Int} {a2 : Int} {o3 : Option eh_V} {o4 : Option eh_V} {s0 : Int} (hp0 : 0 ≤ p0 ∧ p0 < 8) (h : eh_ok σ → (-2147483648 ≤ s0 ∧ s0 < 2147483648) ∧ ((s0 = (-1) → Rt none σ) ∧ (¬ s0 = (-1) → (0 ≤ a1 ∧ a1 < 200) ∧ (0 ≤ σ.2 413 p0 a1 ∧ σ.2 413 p0 a1 < 38424) ∧ ((s0 = σ.2 201 0 (σ.2 413 p0 a1) → T142 [.inr (some (1, 0)), .inl a2, .inl s0, .inl (σ.2 413 p0 a1)] σ (0, 0) (fun r σ1 => X 92 [some (.inr (some (3, p0))), some (.inl a1), some (.inl a2), some (.inl (-1)), some (.inl s0)] (r.toList ++ [.inr (some (3, p0))]) σ1 b)) ∧ (¬ s0 = σ.2 201 0 (σ.2 413 p0 a1) → T142 [.inr (some (1, 0)), .inl a2, .inl s0, .inl (σ.2 413 p0 a1)] σ (0, 0) (fun r σ1 => X 92 [some (.inr (some (3, p0))), some (.inl a1), some (.inl a2), some (.inl (s0 + 1)), some (.inl s0)] (r.toList ++ [.inr (some (3, p0))]) σ1 b)))))) : X 32 [some (.inr (some (3, p0))), some (.inl a1), some (.inl a2), o3, o4] [.inl s0] σ b := by
  refine ru_ok hX (fun hok => ?_)
  replace h := h hok
  refine ru_istore (ls1 := [some (.inr (some (3, p0))), some (.inl a1), some (.inl a2), o3, some (.inl s0)]) hX dX3_every_32 (Nat.le_of_ble_eq_true rfl) rfl (fun _ => ?_)
  refine ru_iload hX dX3_every_34 rfl (fun _ => ?_)
  refine ru_iconst hX dX3_every_36 (fun _ => ?_)
  obtain ⟨k1, h⟩ := h
  refine ru_icmp_ne (tgt := 41) hX dX3_every_37 (by decide) k1 (by unfold eh_r; decide) (fun q => ?_) (fun q => ?_)
  · have q2 := q
    replace h := h.2 q2
    refine ru_iload hX dX3_every_41 rfl (fun _ => ?_)
    refine ru_aload_n hX dX3_every_43 rfl (fun _ => ?_)
    refine ru_get (v := .inr (some (0, 0))) hX dX3_every_44 rfl hp0 rfl (fun _ => ?_)
    refine ru_get (v := .inr (some (1, 0))) hX dX3_every_47 rfl ⟨by decide, by decide⟩ rfl (fun _ => ?_)
    refine ru_get (v := .inr (some (201, 0))) hX dX3_every_50 rfl ⟨by decide, by decide⟩ rfl (fun _ => ?_)
    refine ru_aload_n hX dX3_every_53 rfl (fun _ => ?_)
    refine ru_get (v := .inr (some (413, p0))) hX dX3_every_54 rfl hp0 rfl (fun _ => ?_)
    refine ru_iload_n hX dX3_every_57 rfl (fun _ => ?_)
    obtain ⟨k3, h⟩ := h
    refine ru_iaload hX dX3_every_58 hp0 rfl k3 (fun _ => ?_)
    obtain ⟨k4, h⟩ := h
    refine ru_iaload hX dX3_every_59 ⟨by decide, by decide⟩ rfl k4 (fun _ => ?_)
    refine ru_icmp_ne (tgt := 67) hX dX3_every_60 (by decide) k1 (hok.2 _ _ _ (by decide) (by decide) (by decide) (by decide)) (fun q => ?_) (fun q => ?_)
    · have q5 := q
      replace h := h.2 q5
      refine ru_iload hX dX3_every_67 rfl (fun _ => ?_)
      refine ru_iconst hX dX3_every_69 (fun _ => ?_)
      refine ru_iadd hX dX3_every_70 (fun _ => ?_)
      refine ru_istore_n (ls1 := [some (.inr (some (3, p0))), some (.inl a1), some (.inl a2), some (.inl (s0 + 1)), some (.inl s0)]) hX dX3_every_71 (Nat.le_of_ble_eq_true rfl) rfl (fun _ => ?_)
      refine ru_aload_n hX dX3_every_72 rfl (fun _ => ?_)
      refine ru_aload_n hX dX3_every_73 rfl (fun _ => ?_)
      refine ru_get (v := .inr (some (0, 0))) hX dX3_every_74 rfl hp0 rfl (fun _ => ?_)
      refine ru_get (v := .inr (some (1, 0))) hX dX3_every_77 rfl ⟨by decide, by decide⟩ rfl (fun _ => ?_)
      refine ru_iload_n hX dX3_every_80 rfl (fun _ => ?_)
      refine ru_iload hX dX3_every_81 rfl (fun _ => ?_)
      refine ru_aload_n hX dX3_every_83 rfl (fun _ => ?_)
      refine ru_get (v := .inr (some (413, p0))) hX dX3_every_84 rfl hp0 rfl (fun _ => ?_)
      refine ru_iload_n hX dX3_every_87 rfl (fun _ => ?_)
      refine ru_iaload hX dX3_every_88 hp0 rfl k3 (fun _ => ?_)
      exact ru_callV (as := [.inr (some (1, 0)), .inl a2, .inl s0, .inl (σ.2 413 p0 a1)]) (rest := [.inr (some (3, p0))]) hX dX3_every_89 hc142 rfl (Nat.le_of_ble_eq_true rfl) (0, 0) hb h
    · have q6 := q
      replace h := h.1 q6
      refine ru_iconst hX dX3_every_63 (fun _ => ?_)
      refine ru_goto (tgt := 71) hX dX3_every_64 (by decide) ?_
      refine ru_istore_n (ls1 := [some (.inr (some (3, p0))), some (.inl a1), some (.inl a2), some (.inl (-1)), some (.inl s0)]) hX dX3_every_71 (Nat.le_of_ble_eq_true rfl) rfl (fun _ => ?_)
      refine ru_aload_n hX dX3_every_72 rfl (fun _ => ?_)
      refine ru_aload_n hX dX3_every_73 rfl (fun _ => ?_)
      refine ru_get (v := .inr (some (0, 0))) hX dX3_every_74 rfl hp0 rfl (fun _ => ?_)
      refine ru_get (v := .inr (some (1, 0))) hX dX3_every_77 rfl ⟨by decide, by decide⟩ rfl (fun _ => ?_)
      refine ru_iload_n hX dX3_every_80 rfl (fun _ => ?_)
      refine ru_iload hX dX3_every_81 rfl (fun _ => ?_)
      refine ru_aload_n hX dX3_every_83 rfl (fun _ => ?_)
      refine ru_get (v := .inr (some (413, p0))) hX dX3_every_84 rfl hp0 rfl (fun _ => ?_)
      refine ru_iload_n hX dX3_every_87 rfl (fun _ => ?_)
      refine ru_iaload hX dX3_every_88 hp0 rfl k3 (fun _ => ?_)
      exact ru_callV (as := [.inr (some (1, 0)), .inl a2, .inl s0, .inl (σ.2 413 p0 a1)]) (rest := [.inr (some (3, p0))]) hX dX3_every_89 hc142 rfl (Nat.le_of_ble_eq_true rfl) (0, 0) hb h
  · have q7 := q
    replace h := h.1 q7
    exact ru_return hX dX3_every_40 rfl hb (fun _ => h)
theorem bX3_every_92 {cs ss : Nat → Option (Nat × eh_T)} {lim : Nat × Nat} {Rt : Option eh_V → eh_S → Prop} {X : eh_X} (hX : eh_Ru eh_nX eh_fl3 eh_kn3 cs ss lim Rt 2 cX3_every X) {T146 : eh_T} (hc146 : cs 146 = some (2, T146)) {σ : eh_S} {b : Nat × Nat} (hb : b.1 ≤ lim.1 ∧ b.2 ≤ lim.2) {p0 : Int} {a1 : Int} {a2 : Int} {a3 : Int} {o4 : Option eh_V} {s0 : Int} {t1 : Int} (hp0 : 0 ≤ p0 ∧ p0 < 8) (ht1 : 0 ≤ t1 ∧ t1 < 8) (h : eh_ok σ → ∃ bd1 : Nat × Nat, (b.1 + bd1.1 ≤ lim.1 ∧ b.2 + bd1.2 ≤ lim.2) ∧ T146 [.inr (some (3, t1)), .inl s0] σ bd1 (fun r σ1 => X 95 [some (.inr (some (3, p0))), some (.inl a1), some (.inl a2), some (.inl a3), o4] (r.toList ++ []) σ1 (b.1 + bd1.1, b.2 + bd1.2))) : X 92 [some (.inr (some (3, p0))), some (.inl a1), some (.inl a2), some (.inl a3), o4] [.inl s0, .inr (some (3, t1))] σ b := by
  refine ru_ok hX (fun hok => ?_)
  replace h := h hok
  obtain ⟨bd1, hbd, h⟩ := h
  exact ru_callV (as := [.inr (some (3, t1)), .inl s0]) (rest := []) hX dX3_every_92 hc146 rfl (Nat.le_of_ble_eq_true rfl) bd1 hbd h
theorem bX3_every_95 {cs ss : Nat → Option (Nat × eh_T)} {lim : Nat × Nat} {Rt : Option eh_V → eh_S → Prop} {X : eh_X} (hX : eh_Ru eh_nX eh_fl3 eh_kn3 cs ss lim Rt 2 cX3_every X)  {σ : eh_S} {b : Nat × Nat} (hb : b.1 ≤ lim.1 ∧ b.2 ≤ lim.2) {p0 : Int} {a1 : Int} {a2 : Int} {a3 : Int} {o4 : Option eh_V} (hp0 : 0 ≤ p0 ∧ p0 < 8) (h : eh_ok σ → X 2 [some (.inr (some (3, p0))), some (.inl a1), some (.inl a2), some (.inl a3), o4] [] σ b) : X 95 [some (.inr (some (3, p0))), some (.inl a1), some (.inl a2), some (.inl a3), o4] [] σ b := by
  refine ru_ok hX (fun hok => ?_)
  replace h := h hok
  refine ru_goto (tgt := 2) hX dX3_every_95 (by decide) ?_
  exact h
theorem bX3_move_0 {cs ss : Nat → Option (Nat × eh_T)} {lim : Nat × Nat} {Rt : Option eh_V → eh_S → Prop} {X : eh_X} (hX : eh_Ru eh_nX eh_fl3 eh_kn3 cs ss lim Rt 0 cX3_move X)  {σ : eh_S}  {p0 : Int} {a1 : Int} {a2 : Int} {a3 : Int} {a4 : Int} {o5 : Option eh_V} {o6 : Option eh_V} {o7 : Option eh_V} {o8 : Option eh_V} {o9 : Option eh_V} (hp0 : 0 ≤ p0 ∧ p0 < 8) (h : eh_ok σ → (0 ≤ a1 ∧ a1 < 38424) ∧ X 26 [some (.inr (some (3, p0))), some (.inl a1), some (.inl a2), some (.inl a3), some (.inl a4), some (.inl (σ.2 201 0 a1)), some (.inl 1), some (.inl 0), some (.inl ((σ.2 201 0 a1) + 1)), o9] [] σ (0, 0)) : X 0 [some (.inr (some (3, p0))), some (.inl a1), some (.inl a2), some (.inl a3), some (.inl a4), o5, o6, o7, o8, o9] [] σ (0, 0) := by
  refine ru_ok hX (fun hok => ?_)
  replace h := h hok
  refine ru_aload_n hX dX3_move_0 rfl (fun _ => ?_)
  refine ru_get (v := .inr (some (0, 0))) hX dX3_move_1 rfl hp0 rfl (fun _ => ?_)
  refine ru_get (v := .inr (some (1, 0))) hX dX3_move_4 rfl ⟨by decide, by decide⟩ rfl (fun _ => ?_)
  refine ru_get (v := .inr (some (201, 0))) hX dX3_move_7 rfl ⟨by decide, by decide⟩ rfl (fun _ => ?_)
  refine ru_iload_n hX dX3_move_10 rfl (fun _ => ?_)
  obtain ⟨k1, h⟩ := h
  refine ru_iaload hX dX3_move_11 ⟨by decide, by decide⟩ rfl k1 (fun _ => ?_)
  refine ru_istore (ls1 := [some (.inr (some (3, p0))), some (.inl a1), some (.inl a2), some (.inl a3), some (.inl a4), some (.inl (σ.2 201 0 a1)), o6, o7, o8, o9]) hX dX3_move_12 (Nat.le_of_ble_eq_true rfl) rfl (fun _ => ?_)
  refine ru_iconst hX dX3_move_14 (fun _ => ?_)
  refine ru_istore (ls1 := [some (.inr (some (3, p0))), some (.inl a1), some (.inl a2), some (.inl a3), some (.inl a4), some (.inl (σ.2 201 0 a1)), some (.inl 1), o7, o8, o9]) hX dX3_move_15 (Nat.le_of_ble_eq_true rfl) rfl (fun _ => ?_)
  refine ru_iconst hX dX3_move_17 (fun _ => ?_)
  refine ru_istore (ls1 := [some (.inr (some (3, p0))), some (.inl a1), some (.inl a2), some (.inl a3), some (.inl a4), some (.inl (σ.2 201 0 a1)), some (.inl 1), some (.inl 0), o8, o9]) hX dX3_move_18 (Nat.le_of_ble_eq_true rfl) rfl (fun _ => ?_)
  refine ru_iload hX dX3_move_20 rfl (fun _ => ?_)
  refine ru_iconst hX dX3_move_22 (fun _ => ?_)
  refine ru_iadd hX dX3_move_23 (fun _ => ?_)
  refine ru_istore (ls1 := [some (.inr (some (3, p0))), some (.inl a1), some (.inl a2), some (.inl a3), some (.inl a4), some (.inl (σ.2 201 0 a1)), some (.inl 1), some (.inl 0), some (.inl ((σ.2 201 0 a1) + 1)), o9]) hX dX3_move_24 (Nat.le_of_ble_eq_true rfl) rfl (fun _ => ?_)
  exact h
theorem bX3_move_26 {cs ss : Nat → Option (Nat × eh_T)} {lim : Nat × Nat} {Rt : Option eh_V → eh_S → Prop} {X : eh_X} (hX : eh_Ru eh_nX eh_fl3 eh_kn3 cs ss lim Rt 0 cX3_move X) {T68 : eh_T} (hc68 : cs 68 = some (4, T68)) {T72 : eh_T} (hc72 : cs 72 = some (2, T72)) {σ : eh_S}  {p0 : Int} {a1 : Int} {a2 : Int} {a3 : Int} {a4 : Int} {a5 : Int} {a6 : Int} {a7 : Int} {a8 : Int} {o9 : Option eh_V} (hp0 : 0 ≤ p0 ∧ p0 < 8) (h : eh_ok σ → (-2147483648 ≤ a8 ∧ a8 < 2147483648) ∧ ((σ.1 403 p0 ≤ a8 → (-2147483648 ≤ a4 ∧ a4 < 2147483648) ∧ ((6 < a4 → Rt (some (.inl (-1))) σ) ∧ (¬ 6 < a4 → (0 ≤ a5 ∧ a5 < 6) ∧ ((σ.2 404 p0 a5 = 1 → T72 [.inr (some (1, 0)), .inl a1] σ (0, 0) (fun r σ1 => X 172 [some (.inr (some (3, p0))), some (.inl a1), some (.inl a2), some (.inl a3), some (.inl a4), some (.inl a5), some (.inl a6), some (.inl a7), some (.inl a8), o9] (r.toList ++ []) σ1 (0, 0))) ∧ (¬ σ.2 404 p0 a5 = 1 → Rt (some (.inl (-1))) σ))))) ∧ (¬ σ.1 403 p0 ≤ a8 → (-2147483648 ≤ a6 ∧ a6 < 2147483648) ∧ ((a6 = 0 → (-2147483648 ≤ a4 ∧ a4 < 2147483648) ∧ ((6 < a4 → Rt (some (.inl (-1))) σ) ∧ (¬ 6 < a4 → (0 ≤ a5 ∧ a5 < 6) ∧ ((σ.2 404 p0 a5 = 1 → T72 [.inr (some (1, 0)), .inl a1] σ (0, 0) (fun r σ1 => X 172 [some (.inr (some (3, p0))), some (.inl a1), some (.inl a2), some (.inl a3), some (.inl a4), some (.inl a5), some (.inl a6), some (.inl a7), some (.inl a8), o9] (r.toList ++ []) σ1 (0, 0))) ∧ (¬ σ.2 404 p0 a5 = 1 → Rt (some (.inl (-1))) σ))))) ∧ (¬ a6 = 0 → (0 ≤ a8 ∧ a8 < 6) ∧ ((σ.2 404 p0 a8 = 3 → (a7 = 0 ∨ a7 = 1) ∧ ((σ.2 404 p0 a8 = 2 → X 26 [some (.inr (some (3, p0))), some (.inl a1), some (.inl a2), some (.inl a3), some (.inl a4), some (.inl a5), some (.inl 1), some (.inl (eh_or a7 1)), some (.inl (a8 + 1)), some (.inl 0)] [] σ (0, 0)) ∧ (¬ σ.2 404 p0 a8 = 2 → X 26 [some (.inr (some (3, p0))), some (.inl a1), some (.inl a2), some (.inl a3), some (.inl a4), some (.inl a5), some (.inl 1), some (.inl (eh_or a7 1)), some (.inl (a8 + 1)), some (.inl 0)] [] σ (0, 0)))) ∧ (¬ σ.2 404 p0 a8 = 3 → (-2147483648 ≤ a4 ∧ a4 < 2147483648) ∧ ((a8 < a4 → (a7 = 0 ∨ a7 = 1) ∧ ((σ.2 404 p0 a8 = 2 → X 26 [some (.inr (some (3, p0))), some (.inl a1), some (.inl a2), some (.inl a3), some (.inl a4), some (.inl a5), some (.inl 1), some (.inl (eh_or a7 0)), some (.inl (a8 + 1)), some (.inl 1)] [] σ (0, 0)) ∧ (¬ σ.2 404 p0 a8 = 2 → X 26 [some (.inr (some (3, p0))), some (.inl a1), some (.inl a2), some (.inl a3), some (.inl a4), some (.inl a5), some (.inl 0), some (.inl (eh_or a7 0)), some (.inl (a8 + 1)), some (.inl 1)] [] σ (0, 0)))) ∧ (¬ a8 < a4 → (-2147483648 ≤ a7 ∧ a7 < 2147483648) ∧ ((a7 = 0 → T68 [.inr (some (3, p0)), .inl a8, .inl a1, .inl a3] σ (0, 0) (fun r σ1 => X 87 [some (.inr (some (3, p0))), some (.inl a1), some (.inl a2), some (.inl a3), some (.inl a4), some (.inl a5), some (.inl a6), some (.inl a7), some (.inl a8), some (.inl 1)] (r.toList ++ []) σ1 (0, 0))) ∧ (¬ a7 = 0 → (-2147483648 ≤ a2 ∧ a2 < 2147483648) ∧ ((a2 = 0 → T68 [.inr (some (3, p0)), .inl a8, .inl a1, .inl a3] σ (0, 0) (fun r σ1 => X 87 [some (.inr (some (3, p0))), some (.inl a1), some (.inl a2), some (.inl a3), some (.inl a4), some (.inl a5), some (.inl a6), some (.inl a7), some (.inl a8), some (.inl 1)] (r.toList ++ []) σ1 (0, 0))) ∧ (¬ a2 = 0 → (a7 = 0 ∨ a7 = 1) ∧ ((σ.2 404 p0 a8 = 2 → X 26 [some (.inr (some (3, p0))), some (.inl a1), some (.inl a2), some (.inl a3), some (.inl a4), some (.inl a5), some (.inl 1), some (.inl (eh_or a7 0)), some (.inl (a8 + 1)), some (.inl 1)] [] σ (0, 0)) ∧ (¬ σ.2 404 p0 a8 = 2 → X 26 [some (.inr (some (3, p0))), some (.inl a1), some (.inl a2), some (.inl a3), some (.inl a4), some (.inl a5), some (.inl 0), some (.inl (eh_or a7 0)), some (.inl (a8 + 1)), some (.inl 1)] [] σ (0, 0)))))))))))))))) : X 26 [some (.inr (some (3, p0))), some (.inl a1), some (.inl a2), some (.inl a3), some (.inl a4), some (.inl a5), some (.inl a6), some (.inl a7), some (.inl a8), o9] [] σ (0, 0) := by
  refine ru_ok hX (fun hok => ?_)
  replace h := h hok
  refine ru_iload hX dX3_move_26 rfl (fun _ => ?_)
  refine ru_aload_n hX dX3_move_28 rfl (fun _ => ?_)
  refine ru_get (v := .inl (σ.1 403 p0)) hX dX3_move_29 rfl hp0 rfl (fun _ => ?_)
  obtain ⟨k1, h⟩ := h
  refine ru_icmp_ge (tgt := 143) hX dX3_move_32 (by decide) k1 (hok.1 _ _) (fun q => ?_) (fun q => ?_)
  · have q2 := q
    replace h := h.1 q2
    refine ru_iload hX dX3_move_143 rfl (fun _ => ?_)
    refine ru_bipush hX dX3_move_145 (by decide) (fun _ => ?_)
    obtain ⟨k3, h⟩ := h
    refine ru_icmp_gt (tgt := 192) hX dX3_move_147 (by decide) k3 (by unfold eh_r; decide) (fun q => ?_) (fun q => ?_)
    · have q4 := q
      replace h := h.1 q4
      refine ru_iconst hX dX3_move_192 (fun _ => ?_)
      exact ru_ireturn hX dX3_move_193 (Or.inl rfl) ⟨Nat.zero_le _, Nat.zero_le _⟩ (fun _ => h)
    · have q5 := q
      replace h := h.2 q5
      refine ru_aload_n hX dX3_move_150 rfl (fun _ => ?_)
      refine ru_get (v := .inr (some (404, p0))) hX dX3_move_151 rfl hp0 rfl (fun _ => ?_)
      refine ru_iload hX dX3_move_154 rfl (fun _ => ?_)
      obtain ⟨k6, h⟩ := h
      refine ru_iaload hX dX3_move_156 hp0 rfl k6 (fun _ => ?_)
      refine ru_iconst hX dX3_move_157 (fun _ => ?_)
      refine ru_icmp_ne (tgt := 192) hX dX3_move_158 (by decide) (hok.2 _ _ _ (by decide) (by decide) (by decide) (by decide)) (by unfold eh_r; decide) (fun q => ?_) (fun q => ?_)
      · have q7 := q
        replace h := h.2 q7
        refine ru_iconst hX dX3_move_192 (fun _ => ?_)
        exact ru_ireturn hX dX3_move_193 (Or.inl rfl) ⟨Nat.zero_le _, Nat.zero_le _⟩ (fun _ => h)
      · have q8 := q
        replace h := h.1 q8
        refine ru_aload_n hX dX3_move_161 rfl (fun _ => ?_)
        refine ru_get (v := .inr (some (0, 0))) hX dX3_move_162 rfl hp0 rfl (fun _ => ?_)
        refine ru_get (v := .inr (some (1, 0))) hX dX3_move_165 rfl ⟨by decide, by decide⟩ rfl (fun _ => ?_)
        refine ru_iload_n hX dX3_move_168 rfl (fun _ => ?_)
        exact ru_callV (as := [.inr (some (1, 0)), .inl a1]) (rest := []) hX dX3_move_169 hc72 rfl (Nat.le_of_ble_eq_true rfl) (0, 0) ⟨Nat.zero_le _, Nat.zero_le _⟩ h
  · have q9 := q
    replace h := h.2 q9
    refine ru_iload hX dX3_move_35 rfl (fun _ => ?_)
    obtain ⟨k10, h⟩ := h
    refine ru_if_eq (tgt := 143) hX dX3_move_37 (by decide) k10 (fun q => ?_) (fun q => ?_)
    · have q11 := q
      replace h := h.1 q11
      refine ru_iload hX dX3_move_143 rfl (fun _ => ?_)
      refine ru_bipush hX dX3_move_145 (by decide) (fun _ => ?_)
      obtain ⟨k12, h⟩ := h
      refine ru_icmp_gt (tgt := 192) hX dX3_move_147 (by decide) k12 (by unfold eh_r; decide) (fun q => ?_) (fun q => ?_)
      · have q13 := q
        replace h := h.1 q13
        refine ru_iconst hX dX3_move_192 (fun _ => ?_)
        exact ru_ireturn hX dX3_move_193 (Or.inl rfl) ⟨Nat.zero_le _, Nat.zero_le _⟩ (fun _ => h)
      · have q14 := q
        replace h := h.2 q14
        refine ru_aload_n hX dX3_move_150 rfl (fun _ => ?_)
        refine ru_get (v := .inr (some (404, p0))) hX dX3_move_151 rfl hp0 rfl (fun _ => ?_)
        refine ru_iload hX dX3_move_154 rfl (fun _ => ?_)
        obtain ⟨k15, h⟩ := h
        refine ru_iaload hX dX3_move_156 hp0 rfl k15 (fun _ => ?_)
        refine ru_iconst hX dX3_move_157 (fun _ => ?_)
        refine ru_icmp_ne (tgt := 192) hX dX3_move_158 (by decide) (hok.2 _ _ _ (by decide) (by decide) (by decide) (by decide)) (by unfold eh_r; decide) (fun q => ?_) (fun q => ?_)
        · have q16 := q
          replace h := h.2 q16
          refine ru_iconst hX dX3_move_192 (fun _ => ?_)
          exact ru_ireturn hX dX3_move_193 (Or.inl rfl) ⟨Nat.zero_le _, Nat.zero_le _⟩ (fun _ => h)
        · have q17 := q
          replace h := h.1 q17
          refine ru_aload_n hX dX3_move_161 rfl (fun _ => ?_)
          refine ru_get (v := .inr (some (0, 0))) hX dX3_move_162 rfl hp0 rfl (fun _ => ?_)
          refine ru_get (v := .inr (some (1, 0))) hX dX3_move_165 rfl ⟨by decide, by decide⟩ rfl (fun _ => ?_)
          refine ru_iload_n hX dX3_move_168 rfl (fun _ => ?_)
          exact ru_callV (as := [.inr (some (1, 0)), .inl a1]) (rest := []) hX dX3_move_169 hc72 rfl (Nat.le_of_ble_eq_true rfl) (0, 0) ⟨Nat.zero_le _, Nat.zero_le _⟩ h
    · have q18 := q
      replace h := h.2 q18
      refine ru_aload_n hX dX3_move_40 rfl (fun _ => ?_)
      refine ru_get (v := .inr (some (404, p0))) hX dX3_move_41 rfl hp0 rfl (fun _ => ?_)
      refine ru_iload hX dX3_move_44 rfl (fun _ => ?_)
      obtain ⟨k19, h⟩ := h
      refine ru_iaload hX dX3_move_46 hp0 rfl k19 (fun _ => ?_)
      refine ru_iconst hX dX3_move_47 (fun _ => ?_)
      refine ru_icmp_eq (tgt := 55) hX dX3_move_48 (by decide) (hok.2 _ _ _ (by decide) (by decide) (by decide) (by decide)) (by unfold eh_r; decide) (fun q => ?_) (fun q => ?_)
      · have q20 := q
        replace h := h.1 q20
        refine ru_iconst hX dX3_move_55 (fun _ => ?_)
        refine ru_istore (ls1 := [some (.inr (some (3, p0))), some (.inl a1), some (.inl a2), some (.inl a3), some (.inl a4), some (.inl a5), some (.inl a6), some (.inl a7), some (.inl a8), some (.inl 0)]) hX dX3_move_56 (Nat.le_of_ble_eq_true rfl) rfl (fun _ => ?_)
        refine ru_iload hX dX3_move_58 rfl (fun _ => ?_)
        refine ru_if_eq (tgt := 93) hX dX3_move_60 (by decide) (by unfold eh_r; decide) (fun q => ?_) (fun q => ?_)
        rotate_left
        · exact absurd q (by decide)
        clear q
        refine ru_iload hX dX3_move_93 rfl (fun _ => ?_)
        refine ru_iload hX dX3_move_95 rfl (fun _ => ?_)
        refine ru_if_ne (tgt := 104) hX dX3_move_97 (by decide) (by unfold eh_r; decide) (fun q => ?_) (fun q => ?_)
        · exact absurd q (by decide)
        clear q
        refine ru_iconst hX dX3_move_100 (fun _ => ?_)
        refine ru_goto (tgt := 105) hX dX3_move_101 (by decide) ?_
        obtain ⟨k21, h⟩ := h
        refine ru_ior hX dX3_move_105 k21 (by decide) (fun _ => ?_)
        refine ru_istore (ls1 := [some (.inr (some (3, p0))), some (.inl a1), some (.inl a2), some (.inl a3), some (.inl a4), some (.inl a5), some (.inl a6), some (.inl (eh_or a7 1)), some (.inl a8), some (.inl 0)]) hX dX3_move_106 (Nat.le_of_ble_eq_true rfl) rfl (fun _ => ?_)
        refine ru_aload_n hX dX3_move_108 rfl (fun _ => ?_)
        refine ru_get (v := .inr (some (404, p0))) hX dX3_move_109 rfl hp0 rfl (fun _ => ?_)
        refine ru_iload hX dX3_move_112 rfl (fun _ => ?_)
        refine ru_iaload hX dX3_move_114 hp0 rfl k19 (fun _ => ?_)
        refine ru_iconst hX dX3_move_115 (fun _ => ?_)
        refine ru_icmp_eq (tgt := 130) hX dX3_move_116 (by decide) (hok.2 _ _ _ (by decide) (by decide) (by decide) (by decide)) (by unfold eh_r; decide) (fun q => ?_) (fun q => ?_)
        · have q22 := q
          replace h := h.1 q22
          refine ru_iconst hX dX3_move_130 (fun _ => ?_)
          refine ru_goto (tgt := 135) hX dX3_move_131 (by decide) ?_
          refine ru_istore (ls1 := [some (.inr (some (3, p0))), some (.inl a1), some (.inl a2), some (.inl a3), some (.inl a4), some (.inl a5), some (.inl 1), some (.inl (eh_or a7 1)), some (.inl a8), some (.inl 0)]) hX dX3_move_135 (Nat.le_of_ble_eq_true rfl) rfl (fun _ => ?_)
          refine ru_iinc (ls1 := [some (.inr (some (3, p0))), some (.inl a1), some (.inl a2), some (.inl a3), some (.inl a4), some (.inl a5), some (.inl 1), some (.inl (eh_or a7 1)), some (.inl (a8 + 1)), some (.inl 0)]) hX dX3_move_137 rfl rfl (fun _ => ?_)
          refine ru_goto (tgt := 26) hX dX3_move_140 (by decide) ?_
          exact h
        · have q23 := q
          replace h := h.2 q23
          refine ru_aload_n hX dX3_move_119 rfl (fun _ => ?_)
          refine ru_get (v := .inr (some (404, p0))) hX dX3_move_120 rfl hp0 rfl (fun _ => ?_)
          refine ru_iload hX dX3_move_123 rfl (fun _ => ?_)
          refine ru_iaload hX dX3_move_125 hp0 rfl k19 (fun _ => ?_)
          refine ru_iconst hX dX3_move_126 (fun _ => ?_)
          refine ru_icmp_ne (tgt := 134) hX dX3_move_127 (by decide) (hok.2 _ _ _ (by decide) (by decide) (by decide) (by decide)) (by unfold eh_r; decide) (fun q => ?_) (fun q => ?_)
          · exact absurd q20 q
          clear q
          refine ru_iconst hX dX3_move_130 (fun _ => ?_)
          refine ru_goto (tgt := 135) hX dX3_move_131 (by decide) ?_
          refine ru_istore (ls1 := [some (.inr (some (3, p0))), some (.inl a1), some (.inl a2), some (.inl a3), some (.inl a4), some (.inl a5), some (.inl 1), some (.inl (eh_or a7 1)), some (.inl a8), some (.inl 0)]) hX dX3_move_135 (Nat.le_of_ble_eq_true rfl) rfl (fun _ => ?_)
          refine ru_iinc (ls1 := [some (.inr (some (3, p0))), some (.inl a1), some (.inl a2), some (.inl a3), some (.inl a4), some (.inl a5), some (.inl 1), some (.inl (eh_or a7 1)), some (.inl (a8 + 1)), some (.inl 0)]) hX dX3_move_137 rfl rfl (fun _ => ?_)
          refine ru_goto (tgt := 26) hX dX3_move_140 (by decide) ?_
          exact h
      · have q24 := q
        replace h := h.2 q24
        refine ru_iconst hX dX3_move_51 (fun _ => ?_)
        refine ru_goto (tgt := 56) hX dX3_move_52 (by decide) ?_
        refine ru_istore (ls1 := [some (.inr (some (3, p0))), some (.inl a1), some (.inl a2), some (.inl a3), some (.inl a4), some (.inl a5), some (.inl a6), some (.inl a7), some (.inl a8), some (.inl 1)]) hX dX3_move_56 (Nat.le_of_ble_eq_true rfl) rfl (fun _ => ?_)
        refine ru_iload hX dX3_move_58 rfl (fun _ => ?_)
        refine ru_if_eq (tgt := 93) hX dX3_move_60 (by decide) (by unfold eh_r; decide) (fun q => ?_) (fun q => ?_)
        · exact absurd q (by decide)
        clear q
        refine ru_iload hX dX3_move_63 rfl (fun _ => ?_)
        refine ru_iload hX dX3_move_65 rfl (fun _ => ?_)
        obtain ⟨k25, h⟩ := h
        refine ru_icmp_lt (tgt := 93) hX dX3_move_67 (by decide) k1 k25 (fun q => ?_) (fun q => ?_)
        · have q26 := q
          replace h := h.1 q26
          refine ru_iload hX dX3_move_93 rfl (fun _ => ?_)
          refine ru_iload hX dX3_move_95 rfl (fun _ => ?_)
          refine ru_if_ne (tgt := 104) hX dX3_move_97 (by decide) (by unfold eh_r; decide) (fun q => ?_) (fun q => ?_)
          rotate_left
          · exact absurd q (by decide)
          clear q
          refine ru_iconst hX dX3_move_104 (fun _ => ?_)
          obtain ⟨k27, h⟩ := h
          refine ru_ior hX dX3_move_105 k27 (by decide) (fun _ => ?_)
          refine ru_istore (ls1 := [some (.inr (some (3, p0))), some (.inl a1), some (.inl a2), some (.inl a3), some (.inl a4), some (.inl a5), some (.inl a6), some (.inl (eh_or a7 0)), some (.inl a8), some (.inl 1)]) hX dX3_move_106 (Nat.le_of_ble_eq_true rfl) rfl (fun _ => ?_)
          refine ru_aload_n hX dX3_move_108 rfl (fun _ => ?_)
          refine ru_get (v := .inr (some (404, p0))) hX dX3_move_109 rfl hp0 rfl (fun _ => ?_)
          refine ru_iload hX dX3_move_112 rfl (fun _ => ?_)
          refine ru_iaload hX dX3_move_114 hp0 rfl k19 (fun _ => ?_)
          refine ru_iconst hX dX3_move_115 (fun _ => ?_)
          refine ru_icmp_eq (tgt := 130) hX dX3_move_116 (by decide) (hok.2 _ _ _ (by decide) (by decide) (by decide) (by decide)) (by unfold eh_r; decide) (fun q => ?_) (fun q => ?_)
          · have q28 := q
            replace h := h.1 q28
            refine ru_iconst hX dX3_move_130 (fun _ => ?_)
            refine ru_goto (tgt := 135) hX dX3_move_131 (by decide) ?_
            refine ru_istore (ls1 := [some (.inr (some (3, p0))), some (.inl a1), some (.inl a2), some (.inl a3), some (.inl a4), some (.inl a5), some (.inl 1), some (.inl (eh_or a7 0)), some (.inl a8), some (.inl 1)]) hX dX3_move_135 (Nat.le_of_ble_eq_true rfl) rfl (fun _ => ?_)
            refine ru_iinc (ls1 := [some (.inr (some (3, p0))), some (.inl a1), some (.inl a2), some (.inl a3), some (.inl a4), some (.inl a5), some (.inl 1), some (.inl (eh_or a7 0)), some (.inl (a8 + 1)), some (.inl 1)]) hX dX3_move_137 rfl rfl (fun _ => ?_)
            refine ru_goto (tgt := 26) hX dX3_move_140 (by decide) ?_
            exact h
          · have q29 := q
            replace h := h.2 q29
            refine ru_aload_n hX dX3_move_119 rfl (fun _ => ?_)
            refine ru_get (v := .inr (some (404, p0))) hX dX3_move_120 rfl hp0 rfl (fun _ => ?_)
            refine ru_iload hX dX3_move_123 rfl (fun _ => ?_)
            refine ru_iaload hX dX3_move_125 hp0 rfl k19 (fun _ => ?_)
            refine ru_iconst hX dX3_move_126 (fun _ => ?_)
            refine ru_icmp_ne (tgt := 134) hX dX3_move_127 (by decide) (hok.2 _ _ _ (by decide) (by decide) (by decide) (by decide)) (by unfold eh_r; decide) (fun q => ?_) (fun q => ?_)
            rotate_left
            · exact absurd q q24
            clear q
            refine ru_iconst hX dX3_move_134 (fun _ => ?_)
            refine ru_istore (ls1 := [some (.inr (some (3, p0))), some (.inl a1), some (.inl a2), some (.inl a3), some (.inl a4), some (.inl a5), some (.inl 0), some (.inl (eh_or a7 0)), some (.inl a8), some (.inl 1)]) hX dX3_move_135 (Nat.le_of_ble_eq_true rfl) rfl (fun _ => ?_)
            refine ru_iinc (ls1 := [some (.inr (some (3, p0))), some (.inl a1), some (.inl a2), some (.inl a3), some (.inl a4), some (.inl a5), some (.inl 0), some (.inl (eh_or a7 0)), some (.inl (a8 + 1)), some (.inl 1)]) hX dX3_move_137 rfl rfl (fun _ => ?_)
            refine ru_goto (tgt := 26) hX dX3_move_140 (by decide) ?_
            exact h
        · have q30 := q
          replace h := h.2 q30
          refine ru_iload hX dX3_move_70 rfl (fun _ => ?_)
          obtain ⟨k31, h⟩ := h
          refine ru_if_eq (tgt := 79) hX dX3_move_72 (by decide) k31 (fun q => ?_) (fun q => ?_)
          · have q32 := q
            replace h := h.1 q32
            refine ru_aload_n hX dX3_move_79 rfl (fun _ => ?_)
            refine ru_iload hX dX3_move_80 rfl (fun _ => ?_)
            refine ru_iload_n hX dX3_move_82 rfl (fun _ => ?_)
            refine ru_iload_n hX dX3_move_83 rfl (fun _ => ?_)
            exact ru_callV (as := [.inr (some (3, p0)), .inl a8, .inl a1, .inl a3]) (rest := []) hX dX3_move_84 hc68 rfl (Nat.le_of_ble_eq_true rfl) (0, 0) ⟨Nat.zero_le _, Nat.zero_le _⟩ h
          · have q33 := q
            replace h := h.2 q33
            refine ru_iload_n hX dX3_move_75 rfl (fun _ => ?_)
            obtain ⟨k34, h⟩ := h
            refine ru_if_ne (tgt := 93) hX dX3_move_76 (by decide) k34 (fun q => ?_) (fun q => ?_)
            · have q35 := q
              replace h := h.2 q35
              refine ru_iload hX dX3_move_93 rfl (fun _ => ?_)
              refine ru_iload hX dX3_move_95 rfl (fun _ => ?_)
              refine ru_if_ne (tgt := 104) hX dX3_move_97 (by decide) (by unfold eh_r; decide) (fun q => ?_) (fun q => ?_)
              rotate_left
              · exact absurd q (by decide)
              clear q
              refine ru_iconst hX dX3_move_104 (fun _ => ?_)
              obtain ⟨k36, h⟩ := h
              refine ru_ior hX dX3_move_105 k36 (by decide) (fun _ => ?_)
              refine ru_istore (ls1 := [some (.inr (some (3, p0))), some (.inl a1), some (.inl a2), some (.inl a3), some (.inl a4), some (.inl a5), some (.inl a6), some (.inl (eh_or a7 0)), some (.inl a8), some (.inl 1)]) hX dX3_move_106 (Nat.le_of_ble_eq_true rfl) rfl (fun _ => ?_)
              refine ru_aload_n hX dX3_move_108 rfl (fun _ => ?_)
              refine ru_get (v := .inr (some (404, p0))) hX dX3_move_109 rfl hp0 rfl (fun _ => ?_)
              refine ru_iload hX dX3_move_112 rfl (fun _ => ?_)
              refine ru_iaload hX dX3_move_114 hp0 rfl k19 (fun _ => ?_)
              refine ru_iconst hX dX3_move_115 (fun _ => ?_)
              refine ru_icmp_eq (tgt := 130) hX dX3_move_116 (by decide) (hok.2 _ _ _ (by decide) (by decide) (by decide) (by decide)) (by unfold eh_r; decide) (fun q => ?_) (fun q => ?_)
              · have q37 := q
                replace h := h.1 q37
                refine ru_iconst hX dX3_move_130 (fun _ => ?_)
                refine ru_goto (tgt := 135) hX dX3_move_131 (by decide) ?_
                refine ru_istore (ls1 := [some (.inr (some (3, p0))), some (.inl a1), some (.inl a2), some (.inl a3), some (.inl a4), some (.inl a5), some (.inl 1), some (.inl (eh_or a7 0)), some (.inl a8), some (.inl 1)]) hX dX3_move_135 (Nat.le_of_ble_eq_true rfl) rfl (fun _ => ?_)
                refine ru_iinc (ls1 := [some (.inr (some (3, p0))), some (.inl a1), some (.inl a2), some (.inl a3), some (.inl a4), some (.inl a5), some (.inl 1), some (.inl (eh_or a7 0)), some (.inl (a8 + 1)), some (.inl 1)]) hX dX3_move_137 rfl rfl (fun _ => ?_)
                refine ru_goto (tgt := 26) hX dX3_move_140 (by decide) ?_
                exact h
              · have q38 := q
                replace h := h.2 q38
                refine ru_aload_n hX dX3_move_119 rfl (fun _ => ?_)
                refine ru_get (v := .inr (some (404, p0))) hX dX3_move_120 rfl hp0 rfl (fun _ => ?_)
                refine ru_iload hX dX3_move_123 rfl (fun _ => ?_)
                refine ru_iaload hX dX3_move_125 hp0 rfl k19 (fun _ => ?_)
                refine ru_iconst hX dX3_move_126 (fun _ => ?_)
                refine ru_icmp_ne (tgt := 134) hX dX3_move_127 (by decide) (hok.2 _ _ _ (by decide) (by decide) (by decide) (by decide)) (by unfold eh_r; decide) (fun q => ?_) (fun q => ?_)
                rotate_left
                · exact absurd q q24
                clear q
                refine ru_iconst hX dX3_move_134 (fun _ => ?_)
                refine ru_istore (ls1 := [some (.inr (some (3, p0))), some (.inl a1), some (.inl a2), some (.inl a3), some (.inl a4), some (.inl a5), some (.inl 0), some (.inl (eh_or a7 0)), some (.inl a8), some (.inl 1)]) hX dX3_move_135 (Nat.le_of_ble_eq_true rfl) rfl (fun _ => ?_)
                refine ru_iinc (ls1 := [some (.inr (some (3, p0))), some (.inl a1), some (.inl a2), some (.inl a3), some (.inl a4), some (.inl a5), some (.inl 0), some (.inl (eh_or a7 0)), some (.inl (a8 + 1)), some (.inl 1)]) hX dX3_move_137 rfl rfl (fun _ => ?_)
                refine ru_goto (tgt := 26) hX dX3_move_140 (by decide) ?_
                exact h
            · have q39 := q
              replace h := h.1 q39
              refine ru_aload_n hX dX3_move_79 rfl (fun _ => ?_)
              refine ru_iload hX dX3_move_80 rfl (fun _ => ?_)
              refine ru_iload_n hX dX3_move_82 rfl (fun _ => ?_)
              refine ru_iload_n hX dX3_move_83 rfl (fun _ => ?_)
              exact ru_callV (as := [.inr (some (3, p0)), .inl a8, .inl a1, .inl a3]) (rest := []) hX dX3_move_84 hc68 rfl (Nat.le_of_ble_eq_true rfl) (0, 0) ⟨Nat.zero_le _, Nat.zero_le _⟩ h
theorem bX3_move_87 {cs ss : Nat → Option (Nat × eh_T)} {lim : Nat × Nat} {Rt : Option eh_V → eh_S → Prop} {X : eh_X} (hX : eh_Ru eh_nX eh_fl3 eh_kn3 cs ss lim Rt 0 cX3_move X)  {σ : eh_S}  {p0 : Int} {a1 : Int} {a2 : Int} {a3 : Int} {a4 : Int} {a5 : Int} {o6 : Option eh_V} {a7 : Int} {a8 : Int} {a9 : Int} {s0 : Int} (hp0 : 0 ≤ p0 ∧ p0 < 8) (h : eh_ok σ → (-2147483648 ≤ s0 ∧ s0 < 2147483648) ∧ ((s0 = 0 → (-2147483648 ≤ a9 ∧ a9 < 2147483648) ∧ ((a9 = 0 → (a7 = 0 ∨ a7 = 1) ∧ (0 ≤ a8 ∧ a8 < 6) ∧ ((σ.2 404 p0 a8 = 2 → X 26 [some (.inr (some (3, p0))), some (.inl a1), some (.inl a2), some (.inl a3), some (.inl a4), some (.inl a5), some (.inl 1), some (.inl (eh_or a7 1)), some (.inl (a8 + 1)), some (.inl a9)] [] σ (0, 0)) ∧ (¬ σ.2 404 p0 a8 = 2 → ((σ.2 404 p0 a8 = 3 → X 26 [some (.inr (some (3, p0))), some (.inl a1), some (.inl a2), some (.inl a3), some (.inl a4), some (.inl a5), some (.inl 1), some (.inl (eh_or a7 1)), some (.inl (a8 + 1)), some (.inl a9)] [] σ (0, 0)) ∧ (¬ σ.2 404 p0 a8 = 3 → X 26 [some (.inr (some (3, p0))), some (.inl a1), some (.inl a2), some (.inl a3), some (.inl a4), some (.inl a5), some (.inl 0), some (.inl (eh_or a7 1)), some (.inl (a8 + 1)), some (.inl a9)] [] σ (0, 0)))))) ∧ (¬ a9 = 0 → (a7 = 0 ∨ a7 = 1) ∧ (0 ≤ a8 ∧ a8 < 6) ∧ ((σ.2 404 p0 a8 = 2 → X 26 [some (.inr (some (3, p0))), some (.inl a1), some (.inl a2), some (.inl a3), some (.inl a4), some (.inl a5), some (.inl 1), some (.inl (eh_or a7 0)), some (.inl (a8 + 1)), some (.inl a9)] [] σ (0, 0)) ∧ (¬ σ.2 404 p0 a8 = 2 → ((σ.2 404 p0 a8 = 3 → X 26 [some (.inr (some (3, p0))), some (.inl a1), some (.inl a2), some (.inl a3), some (.inl a4), some (.inl a5), some (.inl 1), some (.inl (eh_or a7 0)), some (.inl (a8 + 1)), some (.inl a9)] [] σ (0, 0)) ∧ (¬ σ.2 404 p0 a8 = 3 → X 26 [some (.inr (some (3, p0))), some (.inl a1), some (.inl a2), some (.inl a3), some (.inl a4), some (.inl a5), some (.inl 0), some (.inl (eh_or a7 0)), some (.inl (a8 + 1)), some (.inl a9)] [] σ (0, 0)))))))) ∧ (¬ s0 = 0 → Rt (some (.inl a8)) σ))) : X 87 [some (.inr (some (3, p0))), some (.inl a1), some (.inl a2), some (.inl a3), some (.inl a4), some (.inl a5), o6, some (.inl a7), some (.inl a8), some (.inl a9)] [.inl s0] σ (0, 0) := by
  refine ru_ok hX (fun hok => ?_)
  replace h := h hok
  obtain ⟨k1, h⟩ := h
  refine ru_if_eq (tgt := 93) hX dX3_move_87 (by decide) k1 (fun q => ?_) (fun q => ?_)
  · have q2 := q
    replace h := h.1 q2
    refine ru_iload hX dX3_move_93 rfl (fun _ => ?_)
    refine ru_iload hX dX3_move_95 rfl (fun _ => ?_)
    obtain ⟨k3, h⟩ := h
    refine ru_if_ne (tgt := 104) hX dX3_move_97 (by decide) k3 (fun q => ?_) (fun q => ?_)
    · have q4 := q
      replace h := h.2 q4
      refine ru_iconst hX dX3_move_104 (fun _ => ?_)
      obtain ⟨k5, h⟩ := h
      refine ru_ior hX dX3_move_105 k5 (by decide) (fun _ => ?_)
      refine ru_istore (ls1 := [some (.inr (some (3, p0))), some (.inl a1), some (.inl a2), some (.inl a3), some (.inl a4), some (.inl a5), o6, some (.inl (eh_or a7 0)), some (.inl a8), some (.inl a9)]) hX dX3_move_106 (Nat.le_of_ble_eq_true rfl) rfl (fun _ => ?_)
      refine ru_aload_n hX dX3_move_108 rfl (fun _ => ?_)
      refine ru_get (v := .inr (some (404, p0))) hX dX3_move_109 rfl hp0 rfl (fun _ => ?_)
      refine ru_iload hX dX3_move_112 rfl (fun _ => ?_)
      obtain ⟨k6, h⟩ := h
      refine ru_iaload hX dX3_move_114 hp0 rfl k6 (fun _ => ?_)
      refine ru_iconst hX dX3_move_115 (fun _ => ?_)
      refine ru_icmp_eq (tgt := 130) hX dX3_move_116 (by decide) (hok.2 _ _ _ (by decide) (by decide) (by decide) (by decide)) (by unfold eh_r; decide) (fun q => ?_) (fun q => ?_)
      · have q7 := q
        replace h := h.1 q7
        refine ru_iconst hX dX3_move_130 (fun _ => ?_)
        refine ru_goto (tgt := 135) hX dX3_move_131 (by decide) ?_
        refine ru_istore (ls1 := [some (.inr (some (3, p0))), some (.inl a1), some (.inl a2), some (.inl a3), some (.inl a4), some (.inl a5), some (.inl 1), some (.inl (eh_or a7 0)), some (.inl a8), some (.inl a9)]) hX dX3_move_135 (Nat.le_of_ble_eq_true rfl) rfl (fun _ => ?_)
        refine ru_iinc (ls1 := [some (.inr (some (3, p0))), some (.inl a1), some (.inl a2), some (.inl a3), some (.inl a4), some (.inl a5), some (.inl 1), some (.inl (eh_or a7 0)), some (.inl (a8 + 1)), some (.inl a9)]) hX dX3_move_137 rfl rfl (fun _ => ?_)
        refine ru_goto (tgt := 26) hX dX3_move_140 (by decide) ?_
        exact h
      · have q8 := q
        replace h := h.2 q8
        refine ru_aload_n hX dX3_move_119 rfl (fun _ => ?_)
        refine ru_get (v := .inr (some (404, p0))) hX dX3_move_120 rfl hp0 rfl (fun _ => ?_)
        refine ru_iload hX dX3_move_123 rfl (fun _ => ?_)
        refine ru_iaload hX dX3_move_125 hp0 rfl k6 (fun _ => ?_)
        refine ru_iconst hX dX3_move_126 (fun _ => ?_)
        refine ru_icmp_ne (tgt := 134) hX dX3_move_127 (by decide) (hok.2 _ _ _ (by decide) (by decide) (by decide) (by decide)) (by unfold eh_r; decide) (fun q => ?_) (fun q => ?_)
        · have q9 := q
          replace h := h.2 q9
          refine ru_iconst hX dX3_move_134 (fun _ => ?_)
          refine ru_istore (ls1 := [some (.inr (some (3, p0))), some (.inl a1), some (.inl a2), some (.inl a3), some (.inl a4), some (.inl a5), some (.inl 0), some (.inl (eh_or a7 0)), some (.inl a8), some (.inl a9)]) hX dX3_move_135 (Nat.le_of_ble_eq_true rfl) rfl (fun _ => ?_)
          refine ru_iinc (ls1 := [some (.inr (some (3, p0))), some (.inl a1), some (.inl a2), some (.inl a3), some (.inl a4), some (.inl a5), some (.inl 0), some (.inl (eh_or a7 0)), some (.inl (a8 + 1)), some (.inl a9)]) hX dX3_move_137 rfl rfl (fun _ => ?_)
          refine ru_goto (tgt := 26) hX dX3_move_140 (by decide) ?_
          exact h
        · have q10 := q
          replace h := h.1 q10
          refine ru_iconst hX dX3_move_130 (fun _ => ?_)
          refine ru_goto (tgt := 135) hX dX3_move_131 (by decide) ?_
          refine ru_istore (ls1 := [some (.inr (some (3, p0))), some (.inl a1), some (.inl a2), some (.inl a3), some (.inl a4), some (.inl a5), some (.inl 1), some (.inl (eh_or a7 0)), some (.inl a8), some (.inl a9)]) hX dX3_move_135 (Nat.le_of_ble_eq_true rfl) rfl (fun _ => ?_)
          refine ru_iinc (ls1 := [some (.inr (some (3, p0))), some (.inl a1), some (.inl a2), some (.inl a3), some (.inl a4), some (.inl a5), some (.inl 1), some (.inl (eh_or a7 0)), some (.inl (a8 + 1)), some (.inl a9)]) hX dX3_move_137 rfl rfl (fun _ => ?_)
          refine ru_goto (tgt := 26) hX dX3_move_140 (by decide) ?_
          exact h
    · have q11 := q
      replace h := h.1 q11
      refine ru_iconst hX dX3_move_100 (fun _ => ?_)
      refine ru_goto (tgt := 105) hX dX3_move_101 (by decide) ?_
      obtain ⟨k12, h⟩ := h
      refine ru_ior hX dX3_move_105 k12 (by decide) (fun _ => ?_)
      refine ru_istore (ls1 := [some (.inr (some (3, p0))), some (.inl a1), some (.inl a2), some (.inl a3), some (.inl a4), some (.inl a5), o6, some (.inl (eh_or a7 1)), some (.inl a8), some (.inl a9)]) hX dX3_move_106 (Nat.le_of_ble_eq_true rfl) rfl (fun _ => ?_)
      refine ru_aload_n hX dX3_move_108 rfl (fun _ => ?_)
      refine ru_get (v := .inr (some (404, p0))) hX dX3_move_109 rfl hp0 rfl (fun _ => ?_)
      refine ru_iload hX dX3_move_112 rfl (fun _ => ?_)
      obtain ⟨k13, h⟩ := h
      refine ru_iaload hX dX3_move_114 hp0 rfl k13 (fun _ => ?_)
      refine ru_iconst hX dX3_move_115 (fun _ => ?_)
      refine ru_icmp_eq (tgt := 130) hX dX3_move_116 (by decide) (hok.2 _ _ _ (by decide) (by decide) (by decide) (by decide)) (by unfold eh_r; decide) (fun q => ?_) (fun q => ?_)
      · have q14 := q
        replace h := h.1 q14
        refine ru_iconst hX dX3_move_130 (fun _ => ?_)
        refine ru_goto (tgt := 135) hX dX3_move_131 (by decide) ?_
        refine ru_istore (ls1 := [some (.inr (some (3, p0))), some (.inl a1), some (.inl a2), some (.inl a3), some (.inl a4), some (.inl a5), some (.inl 1), some (.inl (eh_or a7 1)), some (.inl a8), some (.inl a9)]) hX dX3_move_135 (Nat.le_of_ble_eq_true rfl) rfl (fun _ => ?_)
        refine ru_iinc (ls1 := [some (.inr (some (3, p0))), some (.inl a1), some (.inl a2), some (.inl a3), some (.inl a4), some (.inl a5), some (.inl 1), some (.inl (eh_or a7 1)), some (.inl (a8 + 1)), some (.inl a9)]) hX dX3_move_137 rfl rfl (fun _ => ?_)
        refine ru_goto (tgt := 26) hX dX3_move_140 (by decide) ?_
        exact h
      · have q15 := q
        replace h := h.2 q15
        refine ru_aload_n hX dX3_move_119 rfl (fun _ => ?_)
        refine ru_get (v := .inr (some (404, p0))) hX dX3_move_120 rfl hp0 rfl (fun _ => ?_)
        refine ru_iload hX dX3_move_123 rfl (fun _ => ?_)
        refine ru_iaload hX dX3_move_125 hp0 rfl k13 (fun _ => ?_)
        refine ru_iconst hX dX3_move_126 (fun _ => ?_)
        refine ru_icmp_ne (tgt := 134) hX dX3_move_127 (by decide) (hok.2 _ _ _ (by decide) (by decide) (by decide) (by decide)) (by unfold eh_r; decide) (fun q => ?_) (fun q => ?_)
        · have q16 := q
          replace h := h.2 q16
          refine ru_iconst hX dX3_move_134 (fun _ => ?_)
          refine ru_istore (ls1 := [some (.inr (some (3, p0))), some (.inl a1), some (.inl a2), some (.inl a3), some (.inl a4), some (.inl a5), some (.inl 0), some (.inl (eh_or a7 1)), some (.inl a8), some (.inl a9)]) hX dX3_move_135 (Nat.le_of_ble_eq_true rfl) rfl (fun _ => ?_)
          refine ru_iinc (ls1 := [some (.inr (some (3, p0))), some (.inl a1), some (.inl a2), some (.inl a3), some (.inl a4), some (.inl a5), some (.inl 0), some (.inl (eh_or a7 1)), some (.inl (a8 + 1)), some (.inl a9)]) hX dX3_move_137 rfl rfl (fun _ => ?_)
          refine ru_goto (tgt := 26) hX dX3_move_140 (by decide) ?_
          exact h
        · have q17 := q
          replace h := h.1 q17
          refine ru_iconst hX dX3_move_130 (fun _ => ?_)
          refine ru_goto (tgt := 135) hX dX3_move_131 (by decide) ?_
          refine ru_istore (ls1 := [some (.inr (some (3, p0))), some (.inl a1), some (.inl a2), some (.inl a3), some (.inl a4), some (.inl a5), some (.inl 1), some (.inl (eh_or a7 1)), some (.inl a8), some (.inl a9)]) hX dX3_move_135 (Nat.le_of_ble_eq_true rfl) rfl (fun _ => ?_)
          refine ru_iinc (ls1 := [some (.inr (some (3, p0))), some (.inl a1), some (.inl a2), some (.inl a3), some (.inl a4), some (.inl a5), some (.inl 1), some (.inl (eh_or a7 1)), some (.inl (a8 + 1)), some (.inl a9)]) hX dX3_move_137 rfl rfl (fun _ => ?_)
          refine ru_goto (tgt := 26) hX dX3_move_140 (by decide) ?_
          exact h
  · have q18 := q
    replace h := h.2 q18
    refine ru_iload hX dX3_move_90 rfl (fun _ => ?_)
    exact ru_ireturn hX dX3_move_92 (Or.inl rfl) ⟨Nat.zero_le _, Nat.zero_le _⟩ (fun _ => h)
theorem bX3_move_172 {cs ss : Nat → Option (Nat × eh_T)} {lim : Nat × Nat} {Rt : Option eh_V → eh_S → Prop} {X : eh_X} (hX : eh_Ru eh_nX eh_fl3 eh_kn3 cs ss lim Rt 0 cX3_move X) {T68 : eh_T} (hc68 : cs 68 = some (4, T68)) {σ : eh_S}  {p0 : Int} {a1 : Int} {o2 : Option eh_V} {a3 : Int} {o4 : Option eh_V} {a5 : Int} {o6 : Option eh_V} {o7 : Option eh_V} {o8 : Option eh_V} {o9 : Option eh_V} {s0 : Int} (hp0 : 0 ≤ p0 ∧ p0 < 8) (h : eh_ok σ → (-2147483648 ≤ s0 ∧ s0 < 2147483648) ∧ ((4 ≤ s0 → Rt (some (.inl (-1))) σ) ∧ (¬ 4 ≤ s0 → T68 [.inr (some (3, p0)), .inl a5, .inl a1, .inl a3] σ (0, 0) (fun r σ1 => X 184 [some (.inr (some (3, p0))), some (.inl a1), o2, some (.inl a3), o4, some (.inl a5), o6, o7, o8, o9] (r.toList ++ []) σ1 (0, 0))))) : X 172 [some (.inr (some (3, p0))), some (.inl a1), o2, some (.inl a3), o4, some (.inl a5), o6, o7, o8, o9] [.inl s0] σ (0, 0) := by
  refine ru_ok hX (fun hok => ?_)
  replace h := h hok
  refine ru_iconst hX dX3_move_172 (fun _ => ?_)
  obtain ⟨k1, h⟩ := h
  refine ru_icmp_ge (tgt := 192) hX dX3_move_173 (by decide) k1 (by unfold eh_r; decide) (fun q => ?_) (fun q => ?_)
  · have q2 := q
    replace h := h.1 q2
    refine ru_iconst hX dX3_move_192 (fun _ => ?_)
    exact ru_ireturn hX dX3_move_193 (Or.inl rfl) ⟨Nat.zero_le _, Nat.zero_le _⟩ (fun _ => h)
  · have q3 := q
    replace h := h.2 q3
    refine ru_aload_n hX dX3_move_176 rfl (fun _ => ?_)
    refine ru_iload hX dX3_move_177 rfl (fun _ => ?_)
    refine ru_iload_n hX dX3_move_179 rfl (fun _ => ?_)
    refine ru_iload_n hX dX3_move_180 rfl (fun _ => ?_)
    exact ru_callV (as := [.inr (some (3, p0)), .inl a5, .inl a1, .inl a3]) (rest := []) hX dX3_move_181 hc68 rfl (Nat.le_of_ble_eq_true rfl) (0, 0) ⟨Nat.zero_le _, Nat.zero_le _⟩ h
theorem bX3_move_184 {cs ss : Nat → Option (Nat × eh_T)} {lim : Nat × Nat} {Rt : Option eh_V → eh_S → Prop} {X : eh_X} (hX : eh_Ru eh_nX eh_fl3 eh_kn3 cs ss lim Rt 0 cX3_move X)  {σ : eh_S}  {o0 : Option eh_V} {o1 : Option eh_V} {o2 : Option eh_V} {o3 : Option eh_V} {o4 : Option eh_V} {a5 : Int} {o6 : Option eh_V} {o7 : Option eh_V} {o8 : Option eh_V} {o9 : Option eh_V} {s0 : Int}  (h : eh_ok σ → (-2147483648 ≤ s0 ∧ s0 < 2147483648) ∧ ((s0 = 0 → Rt (some (.inl (-1))) σ) ∧ (¬ s0 = 0 → Rt (some (.inl a5)) σ))) : X 184 [o0, o1, o2, o3, o4, some (.inl a5), o6, o7, o8, o9] [.inl s0] σ (0, 0) := by
  refine ru_ok hX (fun hok => ?_)
  replace h := h hok
  obtain ⟨k1, h⟩ := h
  refine ru_if_eq (tgt := 192) hX dX3_move_184 (by decide) k1 (fun q => ?_) (fun q => ?_)
  · have q2 := q
    replace h := h.1 q2
    refine ru_iconst hX dX3_move_192 (fun _ => ?_)
    exact ru_ireturn hX dX3_move_193 (Or.inl rfl) ⟨Nat.zero_le _, Nat.zero_le _⟩ (fun _ => h)
  · have q3 := q
    replace h := h.2 q3
    refine ru_iload hX dX3_move_187 rfl (fun _ => ?_)
    refine ru_goto (tgt := 193) hX dX3_move_189 (by decide) ?_
    exact ru_ireturn hX dX3_move_193 (Or.inl rfl) ⟨Nat.zero_le _, Nat.zero_le _⟩ (fun _ => h)
theorem bX3_fits_0 {cs ss : Nat → Option (Nat × eh_T)} {lim : Nat × Nat} {Rt : Option eh_V → eh_S → Prop} {X : eh_X} (hX : eh_Ru eh_nX eh_fl3 eh_kn3 cs ss lim Rt 1 cX3_fits X) {T41 : eh_T} (hc41 : cs 41 = some (3, T41)) {σ : eh_S}  {p0 : Int} {a1 : Int} {a2 : Int} {a3 : Int} {o4 : Option eh_V} {o5 : Option eh_V} {o6 : Option eh_V} (hp0 : 0 ≤ p0 ∧ p0 < 8) (h : eh_ok σ → (0 ≤ a3 ∧ a3 < 1000) ∧ (0 ≤ a1 ∧ a1 < 6) ∧ T41 [.inr (some (0, 0)), .inl (σ.2 101 0 a3), .inl (σ.2 405 p0 a1)] σ (0, 0) (fun r σ1 => X 22 [some (.inr (some (3, p0))), some (.inl a1), some (.inl a2), some (.inl a3), o4, o5, o6] (r.toList ++ []) σ1 (0, 0))) : X 0 [some (.inr (some (3, p0))), some (.inl a1), some (.inl a2), some (.inl a3), o4, o5, o6] [] σ (0, 0) := by
  refine ru_ok hX (fun hok => ?_)
  replace h := h hok
  refine ru_aload_n hX dX3_fits_0 rfl (fun _ => ?_)
  refine ru_get (v := .inr (some (0, 0))) hX dX3_fits_1 rfl hp0 rfl (fun _ => ?_)
  refine ru_aload_n hX dX3_fits_4 rfl (fun _ => ?_)
  refine ru_get (v := .inr (some (0, 0))) hX dX3_fits_5 rfl hp0 rfl (fun _ => ?_)
  refine ru_get (v := .inr (some (101, 0))) hX dX3_fits_8 rfl ⟨by decide, by decide⟩ rfl (fun _ => ?_)
  refine ru_iload_n hX dX3_fits_11 rfl (fun _ => ?_)
  obtain ⟨k1, h⟩ := h
  refine ru_iaload hX dX3_fits_12 ⟨by decide, by decide⟩ rfl k1 (fun _ => ?_)
  refine ru_aload_n hX dX3_fits_13 rfl (fun _ => ?_)
  refine ru_get (v := .inr (some (405, p0))) hX dX3_fits_14 rfl hp0 rfl (fun _ => ?_)
  refine ru_iload_n hX dX3_fits_17 rfl (fun _ => ?_)
  obtain ⟨k2, h⟩ := h
  refine ru_iaload hX dX3_fits_18 hp0 rfl k2 (fun _ => ?_)
  exact ru_callV (as := [.inr (some (0, 0)), .inl (σ.2 101 0 a3), .inl (σ.2 405 p0 a1)]) (rest := []) hX dX3_fits_19 hc41 rfl (Nat.le_of_ble_eq_true rfl) (0, 0) ⟨Nat.zero_le _, Nat.zero_le _⟩ h
theorem bX3_fits_22 {cs ss : Nat → Option (Nat × eh_T)} {lim : Nat × Nat} {Rt : Option eh_V → eh_S → Prop} {X : eh_X} (hX : eh_Ru eh_nX eh_fl3 eh_kn3 cs ss lim Rt 1 cX3_fits X) {T52 : eh_T} (hc52 : cs 52 = some (3, T52)) {σ : eh_S}  {p0 : Int} {a1 : Int} {a2 : Int} {a3 : Int} {o4 : Option eh_V} {o5 : Option eh_V} {o6 : Option eh_V} {s0 : Int} (hp0 : 0 ≤ p0 ∧ p0 < 8) (h : eh_ok σ → (-2147483648 ≤ s0 ∧ s0 < 2147483648) ∧ ((s0 = 0 → Rt (some (.inl 0)) σ) ∧ (¬ s0 = 0 → (0 ≤ a1 ∧ a1 < 6) ∧ ((σ.2 406 p0 a1 = 0 → Rt (some (.inl 1)) σ) ∧ (¬ σ.2 406 p0 a1 = 0 → (0 ≤ (a3 * 4) + (σ.2 407 p0 a1) ∧ (a3 * 4) + (σ.2 407 p0 a1) < 4000) ∧ ((σ.2 406 p0 a1 ≤ 3 → (0 ≤ (σ.2 406 p0 a1) - 1 ∧ (σ.2 406 p0 a1) - 1 < 2147483648) ∧ (-2147483648 ≤ ((σ.2 406 p0 a1) - 1) % 3 ∧ ((σ.2 406 p0 a1) - 1) % 3 < 2147483648) ∧ ((((σ.2 406 p0 a1) - 1) % 3 = 0 → ((σ.2 408 p0 a1 ≤ σ.2 104 0 ((a3 * 4) + (σ.2 407 p0 a1)) → Rt (some (.inl 0)) σ) ∧ (¬ σ.2 408 p0 a1 ≤ σ.2 104 0 ((a3 * 4) + (σ.2 407 p0 a1)) → Rt (some (.inl 1)) σ))) ∧ (¬ ((σ.2 406 p0 a1) - 1) % 3 = 0 → ((((σ.2 406 p0 a1) - 1) % 3 = 1 → ((σ.2 104 0 ((a3 * 4) + (σ.2 407 p0 a1)) = σ.2 408 p0 a1 → Rt (some (.inl 1)) σ) ∧ (¬ σ.2 104 0 ((a3 * 4) + (σ.2 407 p0 a1)) = σ.2 408 p0 a1 → Rt (some (.inl 0)) σ))) ∧ (¬ ((σ.2 406 p0 a1) - 1) % 3 = 1 → ((σ.2 104 0 ((a3 * 4) + (σ.2 407 p0 a1)) ≤ σ.2 408 p0 a1 → Rt (some (.inl 0)) σ) ∧ (¬ σ.2 104 0 ((a3 * 4) + (σ.2 407 p0 a1)) ≤ σ.2 408 p0 a1 → Rt (some (.inl 1)) σ))))))) ∧ (¬ σ.2 406 p0 a1 ≤ 3 → T52 [.inr (some (1, 0)), .inl a2, .inl (σ.2 408 p0 a1)] σ (0, 0) (fun r σ1 => X 89 [some (.inr (some (3, p0))), some (.inl a1), some (.inl a2), some (.inl a3), some (.inl (σ.2 104 0 ((a3 * 4) + (σ.2 407 p0 a1)))), some (.inl (σ.2 408 p0 a1)), o6] (r.toList ++ []) σ1 (0, 0))))))))) : X 22 [some (.inr (some (3, p0))), some (.inl a1), some (.inl a2), some (.inl a3), o4, o5, o6] [.inl s0] σ (0, 0) := by
  refine ru_ok hX (fun hok => ?_)
  replace h := h hok
  obtain ⟨k1, h⟩ := h
  refine ru_if_ne (tgt := 27) hX dX3_fits_22 (by decide) k1 (fun q => ?_) (fun q => ?_)
  · have q2 := q
    replace h := h.2 q2
    refine ru_aload_n hX dX3_fits_27 rfl (fun _ => ?_)
    refine ru_get (v := .inr (some (406, p0))) hX dX3_fits_28 rfl hp0 rfl (fun _ => ?_)
    refine ru_iload_n hX dX3_fits_31 rfl (fun _ => ?_)
    obtain ⟨k3, h⟩ := h
    refine ru_iaload hX dX3_fits_32 hp0 rfl k3 (fun _ => ?_)
    refine ru_if_ne (tgt := 38) hX dX3_fits_33 (by decide) (hok.2 _ _ _ (by decide) (by decide) (by decide) (by decide)) (fun q => ?_) (fun q => ?_)
    · have q4 := q
      replace h := h.2 q4
      refine ru_aload_n hX dX3_fits_38 rfl (fun _ => ?_)
      refine ru_get (v := .inr (some (0, 0))) hX dX3_fits_39 rfl hp0 rfl (fun _ => ?_)
      refine ru_get (v := .inr (some (104, 0))) hX dX3_fits_42 rfl ⟨by decide, by decide⟩ rfl (fun _ => ?_)
      refine ru_iload_n hX dX3_fits_45 rfl (fun _ => ?_)
      refine ru_iconst hX dX3_fits_46 (fun _ => ?_)
      refine ru_imul hX dX3_fits_47 (fun _ => ?_)
      refine ru_aload_n hX dX3_fits_48 rfl (fun _ => ?_)
      refine ru_get (v := .inr (some (407, p0))) hX dX3_fits_49 rfl hp0 rfl (fun _ => ?_)
      refine ru_iload_n hX dX3_fits_52 rfl (fun _ => ?_)
      refine ru_iaload hX dX3_fits_53 hp0 rfl k3 (fun _ => ?_)
      refine ru_iadd hX dX3_fits_54 (fun _ => ?_)
      obtain ⟨k5, h⟩ := h
      refine ru_iaload hX dX3_fits_55 ⟨by decide, by decide⟩ rfl k5 (fun _ => ?_)
      refine ru_istore (ls1 := [some (.inr (some (3, p0))), some (.inl a1), some (.inl a2), some (.inl a3), some (.inl (σ.2 104 0 ((a3 * 4) + (σ.2 407 p0 a1)))), o5, o6]) hX dX3_fits_56 (Nat.le_of_ble_eq_true rfl) rfl (fun _ => ?_)
      refine ru_aload_n hX dX3_fits_58 rfl (fun _ => ?_)
      refine ru_get (v := .inr (some (408, p0))) hX dX3_fits_59 rfl hp0 rfl (fun _ => ?_)
      refine ru_iload_n hX dX3_fits_62 rfl (fun _ => ?_)
      refine ru_iaload hX dX3_fits_63 hp0 rfl k3 (fun _ => ?_)
      refine ru_istore (ls1 := [some (.inr (some (3, p0))), some (.inl a1), some (.inl a2), some (.inl a3), some (.inl (σ.2 104 0 ((a3 * 4) + (σ.2 407 p0 a1)))), some (.inl (σ.2 408 p0 a1)), o6]) hX dX3_fits_64 (Nat.le_of_ble_eq_true rfl) rfl (fun _ => ?_)
      refine ru_aload_n hX dX3_fits_66 rfl (fun _ => ?_)
      refine ru_get (v := .inr (some (406, p0))) hX dX3_fits_67 rfl hp0 rfl (fun _ => ?_)
      refine ru_iload_n hX dX3_fits_70 rfl (fun _ => ?_)
      refine ru_iaload hX dX3_fits_71 hp0 rfl k3 (fun _ => ?_)
      refine ru_iconst hX dX3_fits_72 (fun _ => ?_)
      refine ru_icmp_le (tgt := 120) hX dX3_fits_73 (by decide) (hok.2 _ _ _ (by decide) (by decide) (by decide) (by decide)) (by unfold eh_r; decide) (fun q => ?_) (fun q => ?_)
      · have q6 := q
        replace h := h.1 q6
        refine ru_aload_n hX dX3_fits_120 rfl (fun _ => ?_)
        refine ru_get (v := .inr (some (406, p0))) hX dX3_fits_121 rfl hp0 rfl (fun _ => ?_)
        refine ru_iload_n hX dX3_fits_124 rfl (fun _ => ?_)
        refine ru_iaload hX dX3_fits_125 hp0 rfl k3 (fun _ => ?_)
        refine ru_iconst hX dX3_fits_126 (fun _ => ?_)
        refine ru_isub hX dX3_fits_127 (fun _ => ?_)
        refine ru_iconst hX dX3_fits_128 (fun _ => ?_)
        obtain ⟨k7, h⟩ := h
        refine ru_irem hX dX3_fits_129 k7 (by decide) (fun _ => ?_)
        refine ru_istore (ls1 := [some (.inr (some (3, p0))), some (.inl a1), some (.inl a2), some (.inl a3), some (.inl (σ.2 104 0 ((a3 * 4) + (σ.2 407 p0 a1)))), some (.inl (σ.2 408 p0 a1)), some (.inl (((σ.2 406 p0 a1) - 1) % 3))]) hX dX3_fits_130 (Nat.le_of_ble_eq_true rfl) rfl (fun _ => ?_)
        refine ru_iload hX dX3_fits_132 rfl (fun _ => ?_)
        obtain ⟨k8, h⟩ := h
        refine ru_if_ne (tgt := 152) hX dX3_fits_134 (by decide) k8 (fun q => ?_) (fun q => ?_)
        · have q9 := q
          replace h := h.2 q9
          refine ru_iload hX dX3_fits_152 rfl (fun _ => ?_)
          refine ru_iconst hX dX3_fits_154 (fun _ => ?_)
          refine ru_icmp_ne (tgt := 173) hX dX3_fits_155 (by decide) k8 (by unfold eh_r; decide) (fun q => ?_) (fun q => ?_)
          · have q10 := q
            replace h := h.2 q10
            refine ru_iload hX dX3_fits_173 rfl (fun _ => ?_)
            refine ru_iload hX dX3_fits_175 rfl (fun _ => ?_)
            refine ru_icmp_le (tgt := 184) hX dX3_fits_177 (by decide) (hok.2 _ _ _ (by decide) (by decide) (by decide) (by decide)) (hok.2 _ _ _ (by decide) (by decide) (by decide) (by decide)) (fun q => ?_) (fun q => ?_)
            · have q11 := q
              replace h := h.1 q11
              refine ru_iconst hX dX3_fits_184 (fun _ => ?_)
              exact ru_ireturn hX dX3_fits_185 (Or.inr ⟨rfl, by decide⟩) ⟨Nat.zero_le _, Nat.zero_le _⟩ (fun _ => h)
            · have q12 := q
              replace h := h.2 q12
              refine ru_iconst hX dX3_fits_180 (fun _ => ?_)
              refine ru_goto (tgt := 185) hX dX3_fits_181 (by decide) ?_
              exact ru_ireturn hX dX3_fits_185 (Or.inr ⟨rfl, by decide⟩) ⟨Nat.zero_le _, Nat.zero_le _⟩ (fun _ => h)
          · have q13 := q
            replace h := h.1 q13
            refine ru_iload hX dX3_fits_158 rfl (fun _ => ?_)
            refine ru_iload hX dX3_fits_160 rfl (fun _ => ?_)
            refine ru_icmp_ne (tgt := 169) hX dX3_fits_162 (by decide) (hok.2 _ _ _ (by decide) (by decide) (by decide) (by decide)) (hok.2 _ _ _ (by decide) (by decide) (by decide) (by decide)) (fun q => ?_) (fun q => ?_)
            · have q14 := q
              replace h := h.2 q14
              refine ru_iconst hX dX3_fits_169 (fun _ => ?_)
              refine ru_goto (tgt := 185) hX dX3_fits_170 (by decide) ?_
              exact ru_ireturn hX dX3_fits_185 (Or.inr ⟨rfl, by decide⟩) ⟨Nat.zero_le _, Nat.zero_le _⟩ (fun _ => h)
            · have q15 := q
              replace h := h.1 q15
              refine ru_iconst hX dX3_fits_165 (fun _ => ?_)
              refine ru_goto (tgt := 185) hX dX3_fits_166 (by decide) ?_
              exact ru_ireturn hX dX3_fits_185 (Or.inr ⟨rfl, by decide⟩) ⟨Nat.zero_le _, Nat.zero_le _⟩ (fun _ => h)
        · have q16 := q
          replace h := h.1 q16
          refine ru_iload hX dX3_fits_137 rfl (fun _ => ?_)
          refine ru_iload hX dX3_fits_139 rfl (fun _ => ?_)
          refine ru_icmp_ge (tgt := 148) hX dX3_fits_141 (by decide) (hok.2 _ _ _ (by decide) (by decide) (by decide) (by decide)) (hok.2 _ _ _ (by decide) (by decide) (by decide) (by decide)) (fun q => ?_) (fun q => ?_)
          · have q17 := q
            replace h := h.1 q17
            refine ru_iconst hX dX3_fits_148 (fun _ => ?_)
            refine ru_goto (tgt := 185) hX dX3_fits_149 (by decide) ?_
            exact ru_ireturn hX dX3_fits_185 (Or.inr ⟨rfl, by decide⟩) ⟨Nat.zero_le _, Nat.zero_le _⟩ (fun _ => h)
          · have q18 := q
            replace h := h.2 q18
            refine ru_iconst hX dX3_fits_144 (fun _ => ?_)
            refine ru_goto (tgt := 185) hX dX3_fits_145 (by decide) ?_
            exact ru_ireturn hX dX3_fits_185 (Or.inr ⟨rfl, by decide⟩) ⟨Nat.zero_le _, Nat.zero_le _⟩ (fun _ => h)
      · have q19 := q
        replace h := h.2 q19
        refine ru_aload_n hX dX3_fits_76 rfl (fun _ => ?_)
        refine ru_get (v := .inr (some (0, 0))) hX dX3_fits_77 rfl hp0 rfl (fun _ => ?_)
        refine ru_get (v := .inr (some (1, 0))) hX dX3_fits_80 rfl ⟨by decide, by decide⟩ rfl (fun _ => ?_)
        refine ru_iload_n hX dX3_fits_83 rfl (fun _ => ?_)
        refine ru_iload hX dX3_fits_84 rfl (fun _ => ?_)
        exact ru_callV (as := [.inr (some (1, 0)), .inl a2, .inl (σ.2 408 p0 a1)]) (rest := []) hX dX3_fits_86 hc52 rfl (Nat.le_of_ble_eq_true rfl) (0, 0) ⟨Nat.zero_le _, Nat.zero_le _⟩ h
    · have q20 := q
      replace h := h.1 q20
      refine ru_iconst hX dX3_fits_36 (fun _ => ?_)
      exact ru_ireturn hX dX3_fits_37 (Or.inr ⟨rfl, by decide⟩) ⟨Nat.zero_le _, Nat.zero_le _⟩ (fun _ => h)
  · have q21 := q
    replace h := h.1 q21
    refine ru_iconst hX dX3_fits_25 (fun _ => ?_)
    exact ru_ireturn hX dX3_fits_26 (Or.inr ⟨rfl, by decide⟩) ⟨Nat.zero_le _, Nat.zero_le _⟩ (fun _ => h)
theorem bX3_fits_89 {cs ss : Nat → Option (Nat × eh_T)} {lim : Nat × Nat} {Rt : Option eh_V → eh_S → Prop} {X : eh_X} (hX : eh_Ru eh_nX eh_fl3 eh_kn3 cs ss lim Rt 1 cX3_fits X)  {σ : eh_S}  {p0 : Int} {a1 : Int} {o2 : Option eh_V} {o3 : Option eh_V} {a4 : Int} {o5 : Option eh_V} {o6 : Option eh_V} {s0 : Int} (hp0 : 0 ≤ p0 ∧ p0 < 8) (h : eh_ok σ → (-2147483648 ≤ s0 ∧ s0 < 2147483648) ∧ ((s0 = (-1) → Rt (some (.inl 1)) σ) ∧ (¬ s0 = (-1) → (0 ≤ a1 ∧ a1 < 6) ∧ (0 ≤ (s0 * 4) + (σ.2 407 p0 a1) ∧ (s0 * 4) + (σ.2 407 p0 a1) < 4000) ∧ (0 ≤ (σ.2 406 p0 a1) - 1 ∧ (σ.2 406 p0 a1) - 1 < 2147483648) ∧ (-2147483648 ≤ ((σ.2 406 p0 a1) - 1) % 3 ∧ ((σ.2 406 p0 a1) - 1) % 3 < 2147483648) ∧ ((((σ.2 406 p0 a1) - 1) % 3 = 0 → (-2147483648 ≤ a4 ∧ a4 < 2147483648) ∧ ((σ.2 104 0 ((s0 * 4) + (σ.2 407 p0 a1)) ≤ a4 → Rt (some (.inl 0)) σ) ∧ (¬ σ.2 104 0 ((s0 * 4) + (σ.2 407 p0 a1)) ≤ a4 → Rt (some (.inl 1)) σ))) ∧ (¬ ((σ.2 406 p0 a1) - 1) % 3 = 0 → ((((σ.2 406 p0 a1) - 1) % 3 = 1 → (-2147483648 ≤ a4 ∧ a4 < 2147483648) ∧ ((a4 = σ.2 104 0 ((s0 * 4) + (σ.2 407 p0 a1)) → Rt (some (.inl 1)) σ) ∧ (¬ a4 = σ.2 104 0 ((s0 * 4) + (σ.2 407 p0 a1)) → Rt (some (.inl 0)) σ))) ∧ (¬ ((σ.2 406 p0 a1) - 1) % 3 = 1 → (-2147483648 ≤ a4 ∧ a4 < 2147483648) ∧ ((a4 ≤ σ.2 104 0 ((s0 * 4) + (σ.2 407 p0 a1)) → Rt (some (.inl 0)) σ) ∧ (¬ a4 ≤ σ.2 104 0 ((s0 * 4) + (σ.2 407 p0 a1)) → Rt (some (.inl 1)) σ))))))))) : X 89 [some (.inr (some (3, p0))), some (.inl a1), o2, o3, some (.inl a4), o5, o6] [.inl s0] σ (0, 0) := by
  refine ru_ok hX (fun hok => ?_)
  replace h := h hok
  refine ru_istore (ls1 := [some (.inr (some (3, p0))), some (.inl a1), o2, o3, some (.inl a4), o5, some (.inl s0)]) hX dX3_fits_89 (Nat.le_of_ble_eq_true rfl) rfl (fun _ => ?_)
  refine ru_iload hX dX3_fits_91 rfl (fun _ => ?_)
  refine ru_iconst hX dX3_fits_93 (fun _ => ?_)
  obtain ⟨k1, h⟩ := h
  refine ru_icmp_ne (tgt := 99) hX dX3_fits_94 (by decide) k1 (by unfold eh_r; decide) (fun q => ?_) (fun q => ?_)
  · have q2 := q
    replace h := h.2 q2
    refine ru_aload_n hX dX3_fits_99 rfl (fun _ => ?_)
    refine ru_get (v := .inr (some (0, 0))) hX dX3_fits_100 rfl hp0 rfl (fun _ => ?_)
    refine ru_get (v := .inr (some (104, 0))) hX dX3_fits_103 rfl ⟨by decide, by decide⟩ rfl (fun _ => ?_)
    refine ru_iload hX dX3_fits_106 rfl (fun _ => ?_)
    refine ru_iconst hX dX3_fits_108 (fun _ => ?_)
    refine ru_imul hX dX3_fits_109 (fun _ => ?_)
    refine ru_aload_n hX dX3_fits_110 rfl (fun _ => ?_)
    refine ru_get (v := .inr (some (407, p0))) hX dX3_fits_111 rfl hp0 rfl (fun _ => ?_)
    refine ru_iload_n hX dX3_fits_114 rfl (fun _ => ?_)
    obtain ⟨k3, h⟩ := h
    refine ru_iaload hX dX3_fits_115 hp0 rfl k3 (fun _ => ?_)
    refine ru_iadd hX dX3_fits_116 (fun _ => ?_)
    obtain ⟨k4, h⟩ := h
    refine ru_iaload hX dX3_fits_117 ⟨by decide, by decide⟩ rfl k4 (fun _ => ?_)
    refine ru_istore (ls1 := [some (.inr (some (3, p0))), some (.inl a1), o2, o3, some (.inl a4), some (.inl (σ.2 104 0 ((s0 * 4) + (σ.2 407 p0 a1)))), some (.inl s0)]) hX dX3_fits_118 (Nat.le_of_ble_eq_true rfl) rfl (fun _ => ?_)
    refine ru_aload_n hX dX3_fits_120 rfl (fun _ => ?_)
    refine ru_get (v := .inr (some (406, p0))) hX dX3_fits_121 rfl hp0 rfl (fun _ => ?_)
    refine ru_iload_n hX dX3_fits_124 rfl (fun _ => ?_)
    refine ru_iaload hX dX3_fits_125 hp0 rfl k3 (fun _ => ?_)
    refine ru_iconst hX dX3_fits_126 (fun _ => ?_)
    refine ru_isub hX dX3_fits_127 (fun _ => ?_)
    refine ru_iconst hX dX3_fits_128 (fun _ => ?_)
    obtain ⟨k5, h⟩ := h
    refine ru_irem hX dX3_fits_129 k5 (by decide) (fun _ => ?_)
    refine ru_istore (ls1 := [some (.inr (some (3, p0))), some (.inl a1), o2, o3, some (.inl a4), some (.inl (σ.2 104 0 ((s0 * 4) + (σ.2 407 p0 a1)))), some (.inl (((σ.2 406 p0 a1) - 1) % 3))]) hX dX3_fits_130 (Nat.le_of_ble_eq_true rfl) rfl (fun _ => ?_)
    refine ru_iload hX dX3_fits_132 rfl (fun _ => ?_)
    obtain ⟨k6, h⟩ := h
    refine ru_if_ne (tgt := 152) hX dX3_fits_134 (by decide) k6 (fun q => ?_) (fun q => ?_)
    · have q7 := q
      replace h := h.2 q7
      refine ru_iload hX dX3_fits_152 rfl (fun _ => ?_)
      refine ru_iconst hX dX3_fits_154 (fun _ => ?_)
      refine ru_icmp_ne (tgt := 173) hX dX3_fits_155 (by decide) k6 (by unfold eh_r; decide) (fun q => ?_) (fun q => ?_)
      · have q8 := q
        replace h := h.2 q8
        refine ru_iload hX dX3_fits_173 rfl (fun _ => ?_)
        refine ru_iload hX dX3_fits_175 rfl (fun _ => ?_)
        obtain ⟨k9, h⟩ := h
        refine ru_icmp_le (tgt := 184) hX dX3_fits_177 (by decide) k9 (hok.2 _ _ _ (by decide) (by decide) (by decide) (by decide)) (fun q => ?_) (fun q => ?_)
        · have q10 := q
          replace h := h.1 q10
          refine ru_iconst hX dX3_fits_184 (fun _ => ?_)
          exact ru_ireturn hX dX3_fits_185 (Or.inr ⟨rfl, by decide⟩) ⟨Nat.zero_le _, Nat.zero_le _⟩ (fun _ => h)
        · have q11 := q
          replace h := h.2 q11
          refine ru_iconst hX dX3_fits_180 (fun _ => ?_)
          refine ru_goto (tgt := 185) hX dX3_fits_181 (by decide) ?_
          exact ru_ireturn hX dX3_fits_185 (Or.inr ⟨rfl, by decide⟩) ⟨Nat.zero_le _, Nat.zero_le _⟩ (fun _ => h)
      · have q12 := q
        replace h := h.1 q12
        refine ru_iload hX dX3_fits_158 rfl (fun _ => ?_)
        refine ru_iload hX dX3_fits_160 rfl (fun _ => ?_)
        obtain ⟨k13, h⟩ := h
        refine ru_icmp_ne (tgt := 169) hX dX3_fits_162 (by decide) k13 (hok.2 _ _ _ (by decide) (by decide) (by decide) (by decide)) (fun q => ?_) (fun q => ?_)
        · have q14 := q
          replace h := h.2 q14
          refine ru_iconst hX dX3_fits_169 (fun _ => ?_)
          refine ru_goto (tgt := 185) hX dX3_fits_170 (by decide) ?_
          exact ru_ireturn hX dX3_fits_185 (Or.inr ⟨rfl, by decide⟩) ⟨Nat.zero_le _, Nat.zero_le _⟩ (fun _ => h)
        · have q15 := q
          replace h := h.1 q15
          refine ru_iconst hX dX3_fits_165 (fun _ => ?_)
          refine ru_goto (tgt := 185) hX dX3_fits_166 (by decide) ?_
          exact ru_ireturn hX dX3_fits_185 (Or.inr ⟨rfl, by decide⟩) ⟨Nat.zero_le _, Nat.zero_le _⟩ (fun _ => h)
    · have q16 := q
      replace h := h.1 q16
      refine ru_iload hX dX3_fits_137 rfl (fun _ => ?_)
      refine ru_iload hX dX3_fits_139 rfl (fun _ => ?_)
      obtain ⟨k17, h⟩ := h
      refine ru_icmp_ge (tgt := 148) hX dX3_fits_141 (by decide) k17 (hok.2 _ _ _ (by decide) (by decide) (by decide) (by decide)) (fun q => ?_) (fun q => ?_)
      · have q18 := q
        replace h := h.1 q18
        refine ru_iconst hX dX3_fits_148 (fun _ => ?_)
        refine ru_goto (tgt := 185) hX dX3_fits_149 (by decide) ?_
        exact ru_ireturn hX dX3_fits_185 (Or.inr ⟨rfl, by decide⟩) ⟨Nat.zero_le _, Nat.zero_le _⟩ (fun _ => h)
      · have q19 := q
        replace h := h.2 q19
        refine ru_iconst hX dX3_fits_144 (fun _ => ?_)
        refine ru_goto (tgt := 185) hX dX3_fits_145 (by decide) ?_
        exact ru_ireturn hX dX3_fits_185 (Or.inr ⟨rfl, by decide⟩) ⟨Nat.zero_le _, Nat.zero_le _⟩ (fun _ => h)
  · have q20 := q
    replace h := h.1 q20
    refine ru_iconst hX dX3_fits_97 (fun _ => ?_)
    exact ru_ireturn hX dX3_fits_98 (Or.inr ⟨rfl, by decide⟩) ⟨Nat.zero_le _, Nat.zero_le _⟩ (fun _ => h)
theorem bX3_add_0 {cs ss : Nat → Option (Nat × eh_T)} {lim : Nat × Nat} {Rt : Option eh_V → eh_S → Prop} {X : eh_X} (hX : eh_Ru eh_nX eh_fl3 eh_kn3 cs ss lim Rt 2 cX3_add X) {T120 : eh_T} (hc120 : cs 120 = some (2, T120)) {T131 : eh_T} (hc131 : cs 131 = some (2, T131)) {σ : eh_S} {b : Nat × Nat} (hb : b.1 ≤ lim.1 ∧ b.2 ≤ lim.2) {p0 : Int} {a1 : Int} (hp0 : 0 ≤ p0 ∧ p0 < 8) (h : eh_ok σ → ((σ.1 415 p0 = 200 → T120 [.inr (some (1, 0)), .inl a1] σ (0, 0) (fun r σ1 => X 21 [some (.inr (some (3, p0))), some (.inl a1)] (r.toList ++ []) σ1 b)) ∧ (¬ σ.1 415 p0 = 200 → (0 ≤ σ.1 415 p0 ∧ σ.1 415 p0 < 200) ∧ (-2147483648 ≤ a1 ∧ a1 < 2147483648) ∧ (-2147483648 ≤ (σ.1 415 p0) + 1 ∧ (σ.1 415 p0) + 1 < 2147483648) ∧ T131 [.inr (some (3, p0)), .inl a1] (eh_sA (eh_sV (eh_sA σ 413 p0 (σ.1 415 p0) a1) 415 p0 ((σ.1 415 p0) + 1)) 414 p0 (σ.1 415 p0) 0) (0, 0) (fun r σ1 => X 58 [some (.inr (some (3, p0))), some (.inl a1)] (r.toList ++ []) σ1 b)))) : X 0 [some (.inr (some (3, p0))), some (.inl a1)] [] σ b := by
  refine ru_ok hX (fun hok => ?_)
  replace h := h hok
  refine ru_aload_n hX dX3_add_0 rfl (fun _ => ?_)
  refine ru_get (v := .inl (σ.1 415 p0)) hX dX3_add_1 rfl hp0 rfl (fun _ => ?_)
  refine ru_sipush hX dX3_add_4 (by decide) (fun _ => ?_)
  refine ru_icmp_ne (tgt := 26) hX dX3_add_7 (by decide) (hok.1 _ _) (by unfold eh_r; decide) (fun q => ?_) (fun q => ?_)
  · have q1 := q
    replace h := h.2 q1
    refine ru_aload_n hX dX3_add_26 rfl (fun _ => ?_)
    refine ru_get (v := .inr (some (413, p0))) hX dX3_add_27 rfl hp0 rfl (fun _ => ?_)
    refine ru_aload_n hX dX3_add_30 rfl (fun _ => ?_)
    refine ru_get (v := .inl (σ.1 415 p0)) hX dX3_add_31 rfl hp0 rfl (fun _ => ?_)
    refine ru_iload_n hX dX3_add_34 rfl (fun _ => ?_)
    obtain ⟨k2, h⟩ := h
    obtain ⟨k3, h⟩ := h
    refine ru_iastore hX dX3_add_35 hp0 rfl k2 k3 (fun _ => ?_)
    refine ru_aload_n hX dX3_add_36 rfl (fun hok4 => ?_)
    refine ru_get (v := .inr (some (414, p0))) hX dX3_add_37 rfl hp0 rfl (fun _ => ?_)
    refine ru_aload_n hX dX3_add_40 rfl (fun _ => ?_)
    refine ru_dup hX dX3_add_41 (fun _ => ?_)
    refine ru_get (v := .inl (σ.1 415 p0)) hX dX3_add_42 rfl hp0 rfl (fun _ => ?_)
    refine ru_dup_x1 hX dX3_add_45 (fun _ => ?_)
    refine ru_iconst hX dX3_add_46 (fun _ => ?_)
    refine ru_iadd hX dX3_add_47 (fun _ => ?_)
    obtain ⟨k5, h⟩ := h
    refine ru_putI (id := 415) hX dX3_add_48 rfl hp0 rfl k5 rfl (fun _ => ?_)
    refine ru_iconst hX dX3_add_51 (fun hok6 => ?_)
    refine ru_zastore hX dX3_add_52 (by decide) hp0 rfl k2 (by decide) (fun _ => ?_)
    refine ru_aload_n hX dX3_add_53 rfl (fun hok7 => ?_)
    refine ru_iload_n hX dX3_add_54 rfl (fun _ => ?_)
    exact ru_callV (as := [.inr (some (3, p0)), .inl a1]) (rest := []) hX dX3_add_55 hc131 rfl (Nat.le_of_ble_eq_true rfl) (0, 0) hb h
  · have q8 := q
    replace h := h.1 q8
    refine ru_aload_n hX dX3_add_10 rfl (fun _ => ?_)
    refine ru_get (v := .inr (some (0, 0))) hX dX3_add_11 rfl hp0 rfl (fun _ => ?_)
    refine ru_get (v := .inr (some (1, 0))) hX dX3_add_14 rfl ⟨by decide, by decide⟩ rfl (fun _ => ?_)
    refine ru_iload_n hX dX3_add_17 rfl (fun _ => ?_)
    exact ru_callV (as := [.inr (some (1, 0)), .inl a1]) (rest := []) hX dX3_add_18 hc120 rfl (Nat.le_of_ble_eq_true rfl) (0, 0) hb h
theorem bX3_add_21 {cs ss : Nat → Option (Nat × eh_T)} {lim : Nat × Nat} {Rt : Option eh_V → eh_S → Prop} {X : eh_X} (hX : eh_Ru eh_nX eh_fl3 eh_kn3 cs ss lim Rt 2 cX3_add X) {T128 : eh_T} (hc128 : cs 128 = some (1, T128)) {σ : eh_S} {b : Nat × Nat} (hb : b.1 ≤ lim.1 ∧ b.2 ≤ lim.2) {p0 : Int} {o1 : Option eh_V} (hp0 : 0 ≤ p0 ∧ p0 < 8) (h : eh_ok σ → T128 [.inr (some (3, p0))] σ (0, 0) (fun r σ1 => X 25 [some (.inr (some (3, p0))), o1] (r.toList ++ []) σ1 b)) : X 21 [some (.inr (some (3, p0))), o1] [] σ b := by
  refine ru_ok hX (fun hok => ?_)
  replace h := h hok
  refine ru_aload_n hX dX3_add_21 rfl (fun _ => ?_)
  exact ru_callV (as := [.inr (some (3, p0))]) (rest := []) hX dX3_add_22 hc128 rfl (Nat.le_of_ble_eq_true rfl) (0, 0) hb h
theorem bX3_add_25 {cs ss : Nat → Option (Nat × eh_T)} {lim : Nat × Nat} {Rt : Option eh_V → eh_S → Prop} {X : eh_X} (hX : eh_Ru eh_nX eh_fl3 eh_kn3 cs ss lim Rt 2 cX3_add X)  {σ : eh_S} {b : Nat × Nat} (hb : b.1 ≤ lim.1 ∧ b.2 ≤ lim.2) {o0 : Option eh_V} {o1 : Option eh_V}  (h : eh_ok σ → Rt none σ) : X 25 [o0, o1] [] σ b := by
  refine ru_ok hX (fun hok => ?_)
  replace h := h hok
  exact ru_return hX dX3_add_25 rfl hb (fun _ => h)
theorem bX3_add_58 {cs ss : Nat → Option (Nat × eh_T)} {lim : Nat × Nat} {Rt : Option eh_V → eh_S → Prop} {X : eh_X} (hX : eh_Ru eh_nX eh_fl3 eh_kn3 cs ss lim Rt 2 cX3_add X) {T135 : eh_T} (hc135 : cs 135 = some (2, T135)) {σ : eh_S} {b : Nat × Nat} (hb : b.1 ≤ lim.1 ∧ b.2 ≤ lim.2) {p0 : Int} {a1 : Int} {s0 : Int} (hp0 : 0 ≤ p0 ∧ p0 < 8) (h : eh_ok σ → (-2147483648 ≤ s0 ∧ s0 < 2147483648) ∧ ((s0 = 0 → X 66 [some (.inr (some (3, p0))), some (.inl a1)] [] σ b) ∧ (¬ s0 = 0 → ∃ bd4 : Nat × Nat, (b.1 + bd4.1 ≤ lim.1 ∧ b.2 + bd4.2 ≤ lim.2) ∧ T135 [.inr (some (3, p0)), .inl a1] σ bd4 (fun r σ1 => X 66 [some (.inr (some (3, p0))), some (.inl a1)] (r.toList ++ []) σ1 (b.1 + bd4.1, b.2 + bd4.2))))) : X 58 [some (.inr (some (3, p0))), some (.inl a1)] [.inl s0] σ b := by
  refine ru_ok hX (fun hok => ?_)
  replace h := h hok
  obtain ⟨k1, h⟩ := h
  refine ru_if_eq (tgt := 66) hX dX3_add_58 (by decide) k1 (fun q => ?_) (fun q => ?_)
  · have q2 := q
    replace h := h.1 q2
    exact h
  · have q3 := q
    replace h := h.2 q3
    refine ru_aload_n hX dX3_add_61 rfl (fun _ => ?_)
    refine ru_iload_n hX dX3_add_62 rfl (fun _ => ?_)
    obtain ⟨bd4, hbd, h⟩ := h
    exact ru_callV (as := [.inr (some (3, p0)), .inl a1]) (rest := []) hX dX3_add_63 hc135 rfl (Nat.le_of_ble_eq_true rfl) bd4 hbd h
theorem bX3_add_66 {cs ss : Nat → Option (Nat × eh_T)} {lim : Nat × Nat} {Rt : Option eh_V → eh_S → Prop} {X : eh_X} (hX : eh_Ru eh_nX eh_fl3 eh_kn3 cs ss lim Rt 2 cX3_add X)  {σ : eh_S} {b : Nat × Nat} (hb : b.1 ≤ lim.1 ∧ b.2 ≤ lim.2) {o0 : Option eh_V} {o1 : Option eh_V}  (h : eh_ok σ → Rt none σ) : X 66 [o0, o1] [] σ b := by
  refine ru_ok hX (fun hok => ?_)
  replace h := h hok
  exact ru_return hX dX3_add_66 rfl hb (fun _ => h)
theorem bX3_spend_0 {cs ss : Nat → Option (Nat × eh_T)} {lim : Nat × Nat} {Rt : Option eh_V → eh_S → Prop} {X : eh_X} (hX : eh_Ru eh_nX eh_fl3 eh_kn3 cs ss lim Rt 2 cX3_spend X)  {σ : eh_S}  {p0 : Int} {o1 : Option eh_V} (hp0 : 0 ≤ p0 ∧ p0 < 8) (h : eh_ok σ → X 2 [some (.inr (some (3, p0))), some (.inl 0)] [] σ (0, 0)) : X 0 [some (.inr (some (3, p0))), o1] [] σ (0, 0) := by
  refine ru_ok hX (fun hok => ?_)
  replace h := h hok
  refine ru_iconst hX dX3_spend_0 (fun _ => ?_)
  refine ru_istore_n (ls1 := [some (.inr (some (3, p0))), some (.inl 0)]) hX dX3_spend_1 (Nat.le_of_ble_eq_true rfl) rfl (fun _ => ?_)
  exact h
theorem bX3_spend_2 {cs ss : Nat → Option (Nat × eh_T)} {lim : Nat × Nat} {Rt : Option eh_V → eh_S → Prop} {X : eh_X} (hX : eh_Ru eh_nX eh_fl3 eh_kn3 cs ss lim Rt 2 cX3_spend X) {T120 : eh_T} (hc120 : cs 120 = some (2, T120)) {σ : eh_S}  {p0 : Int} {a1 : Int} (hp0 : 0 ≤ p0 ∧ p0 < 8) (h : eh_ok σ → (-2147483648 ≤ a1 ∧ a1 < 2147483648) ∧ ((σ.1 415 p0 ≤ a1 → Rt none (eh_sV (eh_sV σ 415 p0 0) 410 p0 1)) ∧ (¬ σ.1 415 p0 ≤ a1 → (0 ≤ a1 ∧ a1 < 200) ∧ T120 [.inr (some (1, 0)), .inl (σ.2 413 p0 a1)] σ (0, 0) (fun r σ1 => X 26 [some (.inr (some (3, p0))), some (.inl a1)] (r.toList ++ []) σ1 (0, 0))))) : X 2 [some (.inr (some (3, p0))), some (.inl a1)] [] σ (0, 0) := by
  refine ru_ok hX (fun hok => ?_)
  replace h := h hok
  refine ru_iload_n hX dX3_spend_2 rfl (fun _ => ?_)
  refine ru_aload_n hX dX3_spend_3 rfl (fun _ => ?_)
  refine ru_get (v := .inl (σ.1 415 p0)) hX dX3_spend_4 rfl hp0 rfl (fun _ => ?_)
  obtain ⟨k1, h⟩ := h
  refine ru_icmp_ge (tgt := 32) hX dX3_spend_7 (by decide) k1 (hok.1 _ _) (fun q => ?_) (fun q => ?_)
  · have q2 := q
    replace h := h.1 q2
    refine ru_aload_n hX dX3_spend_32 rfl (fun _ => ?_)
    refine ru_iconst hX dX3_spend_33 (fun _ => ?_)
    refine ru_putI (id := 415) hX dX3_spend_34 rfl hp0 rfl (by unfold eh_r; decide) rfl (fun _ => ?_)
    refine ru_aload_n hX dX3_spend_37 rfl (fun hok3 => ?_)
    refine ru_iconst hX dX3_spend_38 (fun _ => ?_)
    refine ru_putZ (id := 410) hX dX3_spend_39 rfl hp0 rfl (by decide) rfl (fun _ => ?_)
    exact ru_return hX dX3_spend_42 rfl ⟨Nat.zero_le _, Nat.zero_le _⟩ (fun _ => h)
  · have q4 := q
    replace h := h.2 q4
    refine ru_aload_n hX dX3_spend_10 rfl (fun _ => ?_)
    refine ru_get (v := .inr (some (0, 0))) hX dX3_spend_11 rfl hp0 rfl (fun _ => ?_)
    refine ru_get (v := .inr (some (1, 0))) hX dX3_spend_14 rfl ⟨by decide, by decide⟩ rfl (fun _ => ?_)
    refine ru_aload_n hX dX3_spend_17 rfl (fun _ => ?_)
    refine ru_get (v := .inr (some (413, p0))) hX dX3_spend_18 rfl hp0 rfl (fun _ => ?_)
    refine ru_iload_n hX dX3_spend_21 rfl (fun _ => ?_)
    obtain ⟨k5, h⟩ := h
    refine ru_iaload hX dX3_spend_22 hp0 rfl k5 (fun _ => ?_)
    exact ru_callV (as := [.inr (some (1, 0)), .inl (σ.2 413 p0 a1)]) (rest := []) hX dX3_spend_23 hc120 rfl (Nat.le_of_ble_eq_true rfl) (0, 0) ⟨Nat.zero_le _, Nat.zero_le _⟩ h
theorem bX3_spend_26 {cs ss : Nat → Option (Nat × eh_T)} {lim : Nat × Nat} {Rt : Option eh_V → eh_S → Prop} {X : eh_X} (hX : eh_Ru eh_nX eh_fl3 eh_kn3 cs ss lim Rt 2 cX3_spend X)  {σ : eh_S}  {p0 : Int} {a1 : Int} (hp0 : 0 ≤ p0 ∧ p0 < 8) (h : eh_ok σ → X 2 [some (.inr (some (3, p0))), some (.inl (a1 + 1))] [] σ (0, 0)) : X 26 [some (.inr (some (3, p0))), some (.inl a1)] [] σ (0, 0) := by
  refine ru_ok hX (fun hok => ?_)
  replace h := h hok
  refine ru_iinc (ls1 := [some (.inr (some (3, p0))), some (.inl (a1 + 1))]) hX dX3_spend_26 rfl rfl (fun _ => ?_)
  refine ru_goto (tgt := 2) hX dX3_spend_29 (by decide) ?_
  exact h
theorem bX3_isWhole_0 {cs ss : Nat → Option (Nat × eh_T)} {lim : Nat × Nat} {Rt : Option eh_V → eh_S → Prop} {X : eh_X} (hX : eh_Ru eh_nX eh_fl3 eh_kn3 cs ss lim Rt 1 cX3_isWhole X)  {σ : eh_S}  {p0 : Int} {a1 : Int} {o2 : Option eh_V} {o3 : Option eh_V} (hp0 : 0 ≤ p0 ∧ p0 < 8) (h : eh_ok σ → (0 ≤ a1 ∧ a1 < 38424) ∧ X 17 [some (.inr (some (3, p0))), some (.inl a1), some (.inl 1), some (.inl ((σ.2 201 0 a1) + 1))] [] σ (0, 0)) : X 0 [some (.inr (some (3, p0))), some (.inl a1), o2, o3] [] σ (0, 0) := by
  refine ru_ok hX (fun hok => ?_)
  replace h := h hok
  refine ru_iconst hX dX3_isWhole_0 (fun _ => ?_)
  refine ru_istore_n (ls1 := [some (.inr (some (3, p0))), some (.inl a1), some (.inl 1), o3]) hX dX3_isWhole_1 (Nat.le_of_ble_eq_true rfl) rfl (fun _ => ?_)
  refine ru_aload_n hX dX3_isWhole_2 rfl (fun _ => ?_)
  refine ru_get (v := .inr (some (0, 0))) hX dX3_isWhole_3 rfl hp0 rfl (fun _ => ?_)
  refine ru_get (v := .inr (some (1, 0))) hX dX3_isWhole_6 rfl ⟨by decide, by decide⟩ rfl (fun _ => ?_)
  refine ru_get (v := .inr (some (201, 0))) hX dX3_isWhole_9 rfl ⟨by decide, by decide⟩ rfl (fun _ => ?_)
  refine ru_iload_n hX dX3_isWhole_12 rfl (fun _ => ?_)
  obtain ⟨k1, h⟩ := h
  refine ru_iaload hX dX3_isWhole_13 ⟨by decide, by decide⟩ rfl k1 (fun _ => ?_)
  refine ru_iconst hX dX3_isWhole_14 (fun _ => ?_)
  refine ru_iadd hX dX3_isWhole_15 (fun _ => ?_)
  refine ru_istore_n (ls1 := [some (.inr (some (3, p0))), some (.inl a1), some (.inl 1), some (.inl ((σ.2 201 0 a1) + 1))]) hX dX3_isWhole_16 (Nat.le_of_ble_eq_true rfl) rfl (fun _ => ?_)
  exact h
theorem bX3_isWhole_17 {cs ss : Nat → Option (Nat × eh_T)} {lim : Nat × Nat} {Rt : Option eh_V → eh_S → Prop} {X : eh_X} (hX : eh_Ru eh_nX eh_fl3 eh_kn3 cs ss lim Rt 1 cX3_isWhole X)  {σ : eh_S}  {p0 : Int} {o1 : Option eh_V} {a2 : Int} {a3 : Int} (hp0 : 0 ≤ p0 ∧ p0 < 8) (h : eh_ok σ → (-2147483648 ≤ a3 ∧ a3 < 2147483648) ∧ ((σ.1 403 p0 ≤ a3 → (a2 = 0 ∨ a2 = 1) ∧ Rt (some (.inl a2)) σ) ∧ (¬ σ.1 403 p0 ≤ a3 → (-2147483648 ≤ a2 ∧ a2 < 2147483648) ∧ ((a2 = 0 → (a2 = 0 ∨ a2 = 1) ∧ Rt (some (.inl a2)) σ) ∧ (¬ a2 = 0 → (0 ≤ a3 ∧ a3 < 6) ∧ ((σ.2 404 p0 a3 = 2 → X 17 [some (.inr (some (3, p0))), o1, some (.inl 1), some (.inl (a3 + 1))] [] σ (0, 0)) ∧ (¬ σ.2 404 p0 a3 = 2 → ((σ.2 404 p0 a3 = 3 → (-2147483648 ≤ (σ.1 403 p0) - 1 ∧ (σ.1 403 p0) - 1 < 2147483648) ∧ ((a3 = (σ.1 403 p0) - 1 → X 17 [some (.inr (some (3, p0))), o1, some (.inl 1), some (.inl (a3 + 1))] [] σ (0, 0)) ∧ (¬ a3 = (σ.1 403 p0) - 1 → X 17 [some (.inr (some (3, p0))), o1, some (.inl 0), some (.inl (a3 + 1))] [] σ (0, 0)))) ∧ (¬ σ.2 404 p0 a3 = 3 → X 17 [some (.inr (some (3, p0))), o1, some (.inl 0), some (.inl (a3 + 1))] [] σ (0, 0)))))))))) : X 17 [some (.inr (some (3, p0))), o1, some (.inl a2), some (.inl a3)] [] σ (0, 0) := by
  refine ru_ok hX (fun hok => ?_)
  replace h := h hok
  refine ru_iload_n hX dX3_isWhole_17 rfl (fun _ => ?_)
  refine ru_aload_n hX dX3_isWhole_18 rfl (fun _ => ?_)
  refine ru_get (v := .inl (σ.1 403 p0)) hX dX3_isWhole_19 rfl hp0 rfl (fun _ => ?_)
  obtain ⟨k1, h⟩ := h
  refine ru_icmp_ge (tgt := 71) hX dX3_isWhole_22 (by decide) k1 (hok.1 _ _) (fun q => ?_) (fun q => ?_)
  · have q2 := q
    replace h := h.1 q2
    refine ru_iload_n hX dX3_isWhole_71 rfl (fun _ => ?_)
    obtain ⟨k3, h⟩ := h
    exact ru_ireturn hX dX3_isWhole_72 (Or.inr ⟨rfl, k3⟩) ⟨Nat.zero_le _, Nat.zero_le _⟩ (fun _ => h)
  · have q4 := q
    replace h := h.2 q4
    refine ru_iload_n hX dX3_isWhole_25 rfl (fun _ => ?_)
    obtain ⟨k5, h⟩ := h
    refine ru_if_eq (tgt := 71) hX dX3_isWhole_26 (by decide) k5 (fun q => ?_) (fun q => ?_)
    · have q6 := q
      replace h := h.1 q6
      refine ru_iload_n hX dX3_isWhole_71 rfl (fun _ => ?_)
      obtain ⟨k7, h⟩ := h
      exact ru_ireturn hX dX3_isWhole_72 (Or.inr ⟨rfl, k7⟩) ⟨Nat.zero_le _, Nat.zero_le _⟩ (fun _ => h)
    · have q8 := q
      replace h := h.2 q8
      refine ru_aload_n hX dX3_isWhole_29 rfl (fun _ => ?_)
      refine ru_get (v := .inr (some (404, p0))) hX dX3_isWhole_30 rfl hp0 rfl (fun _ => ?_)
      refine ru_iload_n hX dX3_isWhole_33 rfl (fun _ => ?_)
      obtain ⟨k9, h⟩ := h
      refine ru_iaload hX dX3_isWhole_34 hp0 rfl k9 (fun _ => ?_)
      refine ru_iconst hX dX3_isWhole_35 (fun _ => ?_)
      refine ru_icmp_eq (tgt := 59) hX dX3_isWhole_36 (by decide) (hok.2 _ _ _ (by decide) (by decide) (by decide) (by decide)) (by unfold eh_r; decide) (fun q => ?_) (fun q => ?_)
      · have q10 := q
        replace h := h.1 q10
        refine ru_iconst hX dX3_isWhole_59 (fun _ => ?_)
        refine ru_goto (tgt := 64) hX dX3_isWhole_60 (by decide) ?_
        refine ru_istore_n (ls1 := [some (.inr (some (3, p0))), o1, some (.inl 1), some (.inl a3)]) hX dX3_isWhole_64 (Nat.le_of_ble_eq_true rfl) rfl (fun _ => ?_)
        refine ru_iinc (ls1 := [some (.inr (some (3, p0))), o1, some (.inl 1), some (.inl (a3 + 1))]) hX dX3_isWhole_65 rfl rfl (fun _ => ?_)
        refine ru_goto (tgt := 17) hX dX3_isWhole_68 (by decide) ?_
        exact h
      · have q11 := q
        replace h := h.2 q11
        refine ru_aload_n hX dX3_isWhole_39 rfl (fun _ => ?_)
        refine ru_get (v := .inr (some (404, p0))) hX dX3_isWhole_40 rfl hp0 rfl (fun _ => ?_)
        refine ru_iload_n hX dX3_isWhole_43 rfl (fun _ => ?_)
        refine ru_iaload hX dX3_isWhole_44 hp0 rfl k9 (fun _ => ?_)
        refine ru_iconst hX dX3_isWhole_45 (fun _ => ?_)
        refine ru_icmp_ne (tgt := 63) hX dX3_isWhole_46 (by decide) (hok.2 _ _ _ (by decide) (by decide) (by decide) (by decide)) (by unfold eh_r; decide) (fun q => ?_) (fun q => ?_)
        · have q12 := q
          replace h := h.2 q12
          refine ru_iconst hX dX3_isWhole_63 (fun _ => ?_)
          refine ru_istore_n (ls1 := [some (.inr (some (3, p0))), o1, some (.inl 0), some (.inl a3)]) hX dX3_isWhole_64 (Nat.le_of_ble_eq_true rfl) rfl (fun _ => ?_)
          refine ru_iinc (ls1 := [some (.inr (some (3, p0))), o1, some (.inl 0), some (.inl (a3 + 1))]) hX dX3_isWhole_65 rfl rfl (fun _ => ?_)
          refine ru_goto (tgt := 17) hX dX3_isWhole_68 (by decide) ?_
          exact h
        · have q13 := q
          replace h := h.1 q13
          refine ru_iload_n hX dX3_isWhole_49 rfl (fun _ => ?_)
          refine ru_aload_n hX dX3_isWhole_50 rfl (fun _ => ?_)
          refine ru_get (v := .inl (σ.1 403 p0)) hX dX3_isWhole_51 rfl hp0 rfl (fun _ => ?_)
          refine ru_iconst hX dX3_isWhole_54 (fun _ => ?_)
          refine ru_isub hX dX3_isWhole_55 (fun _ => ?_)
          obtain ⟨k14, h⟩ := h
          refine ru_icmp_ne (tgt := 63) hX dX3_isWhole_56 (by decide) k1 k14 (fun q => ?_) (fun q => ?_)
          · have q15 := q
            replace h := h.2 q15
            refine ru_iconst hX dX3_isWhole_63 (fun _ => ?_)
            refine ru_istore_n (ls1 := [some (.inr (some (3, p0))), o1, some (.inl 0), some (.inl a3)]) hX dX3_isWhole_64 (Nat.le_of_ble_eq_true rfl) rfl (fun _ => ?_)
            refine ru_iinc (ls1 := [some (.inr (some (3, p0))), o1, some (.inl 0), some (.inl (a3 + 1))]) hX dX3_isWhole_65 rfl rfl (fun _ => ?_)
            refine ru_goto (tgt := 17) hX dX3_isWhole_68 (by decide) ?_
            exact h
          · have q16 := q
            replace h := h.1 q16
            refine ru_iconst hX dX3_isWhole_59 (fun _ => ?_)
            refine ru_goto (tgt := 64) hX dX3_isWhole_60 (by decide) ?_
            refine ru_istore_n (ls1 := [some (.inr (some (3, p0))), o1, some (.inl 1), some (.inl a3)]) hX dX3_isWhole_64 (Nat.le_of_ble_eq_true rfl) rfl (fun _ => ?_)
            refine ru_iinc (ls1 := [some (.inr (some (3, p0))), o1, some (.inl 1), some (.inl (a3 + 1))]) hX dX3_isWhole_65 rfl rfl (fun _ => ?_)
            refine ru_goto (tgt := 17) hX dX3_isWhole_68 (by decide) ?_
            exact h
theorem bX3_tell_0 {cs ss : Nat → Option (Nat × eh_T)} {lim : Nat × Nat} {Rt : Option eh_V → eh_S → Prop} {X : eh_X} (hX : eh_Ru eh_nX eh_fl3 eh_kn3 cs ss lim Rt 2 cX3_tell X) {T82 : eh_T} (hc82 : cs 82 = some (2, T82)) {σ : eh_S} {b : Nat × Nat} (hb : b.1 ≤ lim.1 ∧ b.2 ≤ lim.2) {p0 : Int} {a1 : Int} {o2 : Option eh_V} {o3 : Option eh_V} {o4 : Option eh_V} (hp0 : 0 ≤ p0 ∧ p0 < 8) (h : eh_ok σ → (-2147483648 ≤ (σ.1 412 p0) + 1 ∧ (σ.1 412 p0) + 1 < 2147483648) ∧ ((1000 ≤ σ.1 115 0 → (-2147483648 ≤ (σ.1 115 0) + 1 ∧ (σ.1 115 0) + 1 < 2147483648) ∧ Rt none (eh_sV (eh_sV σ 412 p0 ((σ.1 412 p0) + 1)) 115 0 ((σ.1 115 0) + 1))) ∧ (¬ 1000 ≤ σ.1 115 0 → T82 [.inr (some (1, 0)), .inl a1] (eh_sV σ 412 p0 ((σ.1 412 p0) + 1)) (0, 0) (fun r σ1 => X 34 [some (.inr (some (3, p0))), some (.inl a1), o2, o3, o4] (r.toList ++ []) σ1 b)))) : X 0 [some (.inr (some (3, p0))), some (.inl a1), o2, o3, o4] [] σ b := by
  refine ru_ok hX (fun hok => ?_)
  replace h := h hok
  refine ru_aload_n hX dX3_tell_0 rfl (fun _ => ?_)
  refine ru_dup hX dX3_tell_1 (fun _ => ?_)
  refine ru_get (v := .inl (σ.1 412 p0)) hX dX3_tell_2 rfl hp0 rfl (fun _ => ?_)
  refine ru_iconst hX dX3_tell_5 (fun _ => ?_)
  refine ru_iadd hX dX3_tell_6 (fun _ => ?_)
  obtain ⟨k1, h⟩ := h
  refine ru_putI (id := 412) hX dX3_tell_7 rfl hp0 rfl k1 rfl (fun _ => ?_)
  refine ru_aload_n hX dX3_tell_10 rfl (fun hok2 => ?_)
  refine ru_get (v := .inr (some (0, 0))) hX dX3_tell_11 rfl hp0 rfl (fun _ => ?_)
  refine ru_get (v := .inl (σ.1 115 0)) hX dX3_tell_14 rfl ⟨by decide, by decide⟩ rfl (fun _ => ?_)
  refine ru_sipush hX dX3_tell_17 (by decide) (fun _ => ?_)
  refine ru_icmp_ge (tgt := 205) hX dX3_tell_20 (by decide) (hok.1 _ _) (by unfold eh_r; decide) (fun q => ?_) (fun q => ?_)
  · have q3 := q
    replace h := h.1 q3
    refine ru_aload_n hX dX3_tell_205 rfl (fun _ => ?_)
    refine ru_get (v := .inr (some (0, 0))) hX dX3_tell_206 rfl hp0 rfl (fun _ => ?_)
    refine ru_dup hX dX3_tell_209 (fun _ => ?_)
    refine ru_get (v := .inl (σ.1 115 0)) hX dX3_tell_210 rfl ⟨by decide, by decide⟩ rfl (fun _ => ?_)
    refine ru_iconst hX dX3_tell_213 (fun _ => ?_)
    refine ru_iadd hX dX3_tell_214 (fun _ => ?_)
    obtain ⟨k4, h⟩ := h
    refine ru_putI (id := 115) hX dX3_tell_215 rfl ⟨by decide, by decide⟩ rfl k4 rfl (fun _ => ?_)
    exact ru_return hX dX3_tell_218 rfl hb (fun _ => h)
  · have q5 := q
    replace h := h.2 q5
    refine ru_aload_n hX dX3_tell_23 rfl (fun _ => ?_)
    refine ru_get (v := .inr (some (0, 0))) hX dX3_tell_24 rfl hp0 rfl (fun _ => ?_)
    refine ru_get (v := .inr (some (1, 0))) hX dX3_tell_27 rfl ⟨by decide, by decide⟩ rfl (fun _ => ?_)
    refine ru_iload_n hX dX3_tell_30 rfl (fun _ => ?_)
    exact ru_callV (as := [.inr (some (1, 0)), .inl a1]) (rest := []) hX dX3_tell_31 hc82 rfl (Nat.le_of_ble_eq_true rfl) (0, 0) hb h
theorem bX3_tell_34 {cs ss : Nat → Option (Nat × eh_T)} {lim : Nat × Nat} {Rt : Option eh_V → eh_S → Prop} {X : eh_X} (hX : eh_Ru eh_nX eh_fl3 eh_kn3 cs ss lim Rt 2 cX3_tell X)  {σ : eh_S} {b : Nat × Nat} (hb : b.1 ≤ lim.1 ∧ b.2 ≤ lim.2) {p0 : Int} {a1 : Int} {o2 : Option eh_V} {o3 : Option eh_V} {o4 : Option eh_V} {s0 : Int} (hp0 : 0 ≤ p0 ∧ p0 < 8) (h : eh_ok σ → (0 ≤ σ.1 115 0 ∧ σ.1 115 0 < 1000) ∧ (-2147483648 ≤ s0 ∧ s0 < 2147483648) ∧ (0 ≤ s0 ∧ s0 < 1000) ∧ (0 ≤ σ.1 10 0 ∧ σ.1 10 0 < 100000) ∧ (b.1 + 1 ≤ lim.1 ∧ b.2 + (s0).toNat ≤ lim.2) ∧ ∀ a_8 : Int, 0 ≤ a_8 → (∃ j : Int, (0 ≤ j ∧ j < (eh_nS (eh_sA (eh_sA σ 111 0 (σ.1 115 0) (σ.1 116 0)) 112 0 (σ.1 115 0) s0) s0 a_8).1 10 0) ∧ (eh_nS (eh_sA (eh_sA σ 111 0 (σ.1 115 0) (σ.1 116 0)) 112 0 (σ.1 115 0) s0) s0 a_8).2 12 0 j = a_8) ∧ (0 ≤ (eh_nS (eh_sA (eh_sA σ 111 0 (σ.1 115 0) (σ.1 116 0)) 112 0 (σ.1 115 0) s0) s0 a_8).1 11 0 ∧ (eh_nS (eh_sA (eh_sA σ 111 0 (σ.1 115 0) (σ.1 116 0)) 112 0 (σ.1 115 0) s0) s0 a_8).1 11 0 < 100000) ∧ ((b.1 + 1, b.2 + (s0).toNat).1 + 1 ≤ lim.1 ∧ (b.1 + 1, b.2 + (s0).toNat).2 + (s0).toNat ≤ lim.2) ∧ ∀ a_15 : Int, 0 ≤ a_15 → (0 ≤ (eh_nS (eh_sA (eh_sA σ 111 0 (σ.1 115 0) (σ.1 116 0)) 112 0 (σ.1 115 0) s0) s0 a_8).1 115 0 ∧ (eh_nS (eh_sA (eh_sA σ 111 0 (σ.1 115 0) (σ.1 116 0)) 112 0 (σ.1 115 0) s0) s0 a_8).1 115 0 < 1000) ∧ (∃ j : Int, (0 ≤ j ∧ j < (eh_nB (eh_sA (eh_nS (eh_sA (eh_sA σ 111 0 (σ.1 115 0) (σ.1 116 0)) 112 0 (σ.1 115 0) s0) s0 a_8) 113 0 (σ.1 115 0) a_8) s0 a_15).1 11 0) ∧ (eh_nB (eh_sA (eh_nS (eh_sA (eh_sA σ 111 0 (σ.1 115 0) (σ.1 116 0)) 112 0 (σ.1 115 0) s0) s0 a_8) 113 0 (σ.1 115 0) a_8) s0 a_15).2 13 0 j = a_15) ∧ X 116 [some (.inr (some (3, p0))), some (.inl a1), some (.inl s0), some (.inl (s0 - 1)), some (.inl a1)] [] (eh_sA (eh_nB (eh_sA (eh_nS (eh_sA (eh_sA σ 111 0 (σ.1 115 0) (σ.1 116 0)) 112 0 (σ.1 115 0) s0) s0 a_8) 113 0 (σ.1 115 0) a_8) s0 a_15) 114 0 ((eh_nS (eh_sA (eh_sA σ 111 0 (σ.1 115 0) (σ.1 116 0)) 112 0 (σ.1 115 0) s0) s0 a_8).1 115 0) a_15) ((b.1 + 1, b.2 + (s0).toNat).1 + 1, (b.1 + 1, b.2 + (s0).toNat).2 + (s0).toNat)) : X 34 [some (.inr (some (3, p0))), some (.inl a1), o2, o3, o4] [.inl s0] σ b := by
  refine ru_ok hX (fun hok => ?_)
  replace h := h hok
  refine ru_istore_n (ls1 := [some (.inr (some (3, p0))), some (.inl a1), some (.inl s0), o3, o4]) hX dX3_tell_34 (Nat.le_of_ble_eq_true rfl) rfl (fun _ => ?_)
  refine ru_aload_n hX dX3_tell_35 rfl (fun _ => ?_)
  refine ru_get (v := .inr (some (0, 0))) hX dX3_tell_36 rfl hp0 rfl (fun _ => ?_)
  refine ru_get (v := .inr (some (111, 0))) hX dX3_tell_39 rfl ⟨by decide, by decide⟩ rfl (fun _ => ?_)
  refine ru_aload_n hX dX3_tell_42 rfl (fun _ => ?_)
  refine ru_get (v := .inr (some (0, 0))) hX dX3_tell_43 rfl hp0 rfl (fun _ => ?_)
  refine ru_get (v := .inl (σ.1 115 0)) hX dX3_tell_46 rfl ⟨by decide, by decide⟩ rfl (fun _ => ?_)
  refine ru_aload_n hX dX3_tell_49 rfl (fun _ => ?_)
  refine ru_get (v := .inr (some (0, 0))) hX dX3_tell_50 rfl hp0 rfl (fun _ => ?_)
  refine ru_get (v := .inl (σ.1 116 0)) hX dX3_tell_53 rfl ⟨by decide, by decide⟩ rfl (fun _ => ?_)
  obtain ⟨k1, h⟩ := h
  refine ru_iastore hX dX3_tell_56 ⟨by decide, by decide⟩ rfl k1 (hok.1 _ _) (fun _ => ?_)
  refine ru_aload_n hX dX3_tell_57 rfl (fun hok2 => ?_)
  refine ru_get (v := .inr (some (0, 0))) hX dX3_tell_58 rfl hp0 rfl (fun _ => ?_)
  refine ru_get (v := .inr (some (112, 0))) hX dX3_tell_61 rfl ⟨by decide, by decide⟩ rfl (fun _ => ?_)
  refine ru_aload_n hX dX3_tell_64 rfl (fun _ => ?_)
  refine ru_get (v := .inr (some (0, 0))) hX dX3_tell_65 rfl hp0 rfl (fun _ => ?_)
  refine ru_get (v := .inl (σ.1 115 0)) hX dX3_tell_68 rfl ⟨by decide, by decide⟩ rfl (fun _ => ?_)
  refine ru_iload_n hX dX3_tell_71 rfl (fun _ => ?_)
  obtain ⟨k3, h⟩ := h
  refine ru_iastore hX dX3_tell_72 ⟨by decide, by decide⟩ rfl k1 k3 (fun _ => ?_)
  refine ru_aload_n hX dX3_tell_73 rfl (fun hok4 => ?_)
  refine ru_get (v := .inr (some (0, 0))) hX dX3_tell_74 rfl hp0 rfl (fun _ => ?_)
  refine ru_get (v := .inr (some (113, 0))) hX dX3_tell_77 rfl ⟨by decide, by decide⟩ rfl (fun _ => ?_)
  refine ru_aload_n hX dX3_tell_80 rfl (fun _ => ?_)
  refine ru_get (v := .inr (some (0, 0))) hX dX3_tell_81 rfl hp0 rfl (fun _ => ?_)
  refine ru_get (v := .inl (σ.1 115 0)) hX dX3_tell_84 rfl ⟨by decide, by decide⟩ rfl (fun _ => ?_)
  refine ru_iload_n hX dX3_tell_87 rfl (fun _ => ?_)
  obtain ⟨k5, h⟩ := h
  obtain ⟨k6, h⟩ := h
  obtain ⟨k7, h⟩ := h
  refine ru_newS hX dX3_tell_88 (by decide) k5 k6 k7 (fun a_8 ha9 => ?_)
  have h := h a_8 ha9
  obtain ⟨k10, h⟩ := h
  refine ru_rastoreS hX dX3_tell_90 (by decide) ⟨by decide, by decide⟩ ha9 k1 k10 (fun hok11 => ?_)
  refine ru_aload_n hX dX3_tell_91 rfl (fun hok12 => ?_)
  refine ru_get (v := .inr (some (0, 0))) hX dX3_tell_92 rfl hp0 rfl (fun _ => ?_)
  refine ru_get (v := .inr (some (114, 0))) hX dX3_tell_95 rfl ⟨by decide, by decide⟩ rfl (fun _ => ?_)
  refine ru_aload_n hX dX3_tell_98 rfl (fun _ => ?_)
  refine ru_get (v := .inr (some (0, 0))) hX dX3_tell_99 rfl hp0 rfl (fun _ => ?_)
  refine ru_get (v := .inl ((eh_nS (eh_sA (eh_sA σ 111 0 (σ.1 115 0) (σ.1 116 0)) 112 0 (σ.1 115 0) s0) s0 a_8).1 115 0)) hX dX3_tell_102 rfl ⟨by decide, by decide⟩ rfl (fun _ => ?_)
  refine ru_iload_n hX dX3_tell_105 rfl (fun _ => ?_)
  obtain ⟨k13, h⟩ := h
  obtain ⟨k14, h⟩ := h
  refine ru_newB hX dX3_tell_106 (by decide) k5 k13 k14 (fun a_15 ha16 => ?_)
  have h := h a_15 ha16
  obtain ⟨k17, h⟩ := h
  obtain ⟨k18, h⟩ := h
  refine ru_rastoreB hX dX3_tell_108 (by decide) ⟨by decide, by decide⟩ ha16 k17 k18 (fun hok19 => ?_)
  refine ru_iload_n hX dX3_tell_109 rfl (fun hok20 => ?_)
  refine ru_iconst hX dX3_tell_110 (fun _ => ?_)
  refine ru_isub hX dX3_tell_111 (fun _ => ?_)
  refine ru_istore_n (ls1 := [some (.inr (some (3, p0))), some (.inl a1), some (.inl s0), some (.inl (s0 - 1)), o4]) hX dX3_tell_112 (Nat.le_of_ble_eq_true rfl) rfl (fun _ => ?_)
  refine ru_iload_n hX dX3_tell_113 rfl (fun _ => ?_)
  refine ru_istore (ls1 := [some (.inr (some (3, p0))), some (.inl a1), some (.inl s0), some (.inl (s0 - 1)), some (.inl a1)]) hX dX3_tell_114 (Nat.le_of_ble_eq_true rfl) rfl (fun _ => ?_)
  exact h
theorem bX3_tell_116 {cs ss : Nat → Option (Nat × eh_T)} {lim : Nat × Nat} {Rt : Option eh_V → eh_S → Prop} {X : eh_X} (hX : eh_Ru eh_nX eh_fl3 eh_kn3 cs ss lim Rt 2 cX3_tell X)  {σ : eh_S} {b : Nat × Nat} (hb : b.1 ≤ lim.1 ∧ b.2 ≤ lim.2) {p0 : Int} {o1 : Option eh_V} {o2 : Option eh_V} {a3 : Int} {a4 : Int} (hp0 : 0 ≤ p0 ∧ p0 < 8) (h : eh_ok σ → (-2147483648 ≤ a4 ∧ a4 < 2147483648) ∧ ((a4 = (-1) → (-2147483648 ≤ (σ.1 115 0) + 1 ∧ (σ.1 115 0) + 1 < 2147483648) ∧ Rt none (eh_sV σ 115 0 ((σ.1 115 0) + 1))) ∧ (¬ a4 = (-1) → (0 ≤ σ.1 115 0 ∧ σ.1 115 0 < 1000) ∧ (0 ≤ σ.2 113 0 (σ.1 115 0)) ∧ (0 ≤ a4 ∧ a4 < 38424) ∧ (-32768 ≤ σ.2 200 0 a4 ∧ σ.2 200 0 a4 < 32768) ∧ ∃ j9 : Int, (0 ≤ j9 ∧ j9 < σ.1 10 0) ∧ σ.2 12 0 j9 = σ.2 113 0 (σ.1 115 0) ∧ (0 ≤ a3 ∧ a3 < σ.2 14 0 j9) ∧ (0 ≤ σ.2 114 0 (σ.1 115 0)) ∧ (-128 ≤ σ.2 201 0 a4 ∧ σ.2 201 0 a4 < 128) ∧ ∃ j13 : Int, (0 ≤ j13 ∧ j13 < σ.1 11 0) ∧ σ.2 13 0 j13 = σ.2 114 0 (σ.1 115 0) ∧ (0 ≤ a3 ∧ a3 < σ.2 15 0 j13) ∧ X 116 [some (.inr (some (3, p0))), o1, o2, some (.inl (a3 + (-1))), some (.inl (σ.2 202 0 a4))] [] (eh_sA (eh_sA σ 10 j9 a3 (σ.2 200 0 a4)) 11 j13 a3 (σ.2 201 0 a4)) b))) : X 116 [some (.inr (some (3, p0))), o1, o2, some (.inl a3), some (.inl a4)] [] σ b := by
  refine ru_ok hX (fun hok => ?_)
  replace h := h hok
  refine ru_iload hX dX3_tell_116 rfl (fun _ => ?_)
  refine ru_iconst hX dX3_tell_118 (fun _ => ?_)
  obtain ⟨k1, h⟩ := h
  refine ru_icmp_eq (tgt := 205) hX dX3_tell_119 (by decide) k1 (by unfold eh_r; decide) (fun q => ?_) (fun q => ?_)
  · have q2 := q
    replace h := h.1 q2
    refine ru_aload_n hX dX3_tell_205 rfl (fun _ => ?_)
    refine ru_get (v := .inr (some (0, 0))) hX dX3_tell_206 rfl hp0 rfl (fun _ => ?_)
    refine ru_dup hX dX3_tell_209 (fun _ => ?_)
    refine ru_get (v := .inl (σ.1 115 0)) hX dX3_tell_210 rfl ⟨by decide, by decide⟩ rfl (fun _ => ?_)
    refine ru_iconst hX dX3_tell_213 (fun _ => ?_)
    refine ru_iadd hX dX3_tell_214 (fun _ => ?_)
    obtain ⟨k3, h⟩ := h
    refine ru_putI (id := 115) hX dX3_tell_215 rfl ⟨by decide, by decide⟩ rfl k3 rfl (fun _ => ?_)
    exact ru_return hX dX3_tell_218 rfl hb (fun _ => h)
  · have q4 := q
    replace h := h.2 q4
    refine ru_aload_n hX dX3_tell_122 rfl (fun _ => ?_)
    refine ru_get (v := .inr (some (0, 0))) hX dX3_tell_123 rfl hp0 rfl (fun _ => ?_)
    refine ru_get (v := .inr (some (113, 0))) hX dX3_tell_126 rfl ⟨by decide, by decide⟩ rfl (fun _ => ?_)
    refine ru_aload_n hX dX3_tell_129 rfl (fun _ => ?_)
    refine ru_get (v := .inr (some (0, 0))) hX dX3_tell_130 rfl hp0 rfl (fun _ => ?_)
    refine ru_get (v := .inl (σ.1 115 0)) hX dX3_tell_133 rfl ⟨by decide, by decide⟩ rfl (fun _ => ?_)
    obtain ⟨k5, h⟩ := h
    obtain ⟨k6, h⟩ := h
    refine ru_raload hX dX3_tell_136 ⟨by decide, by decide⟩ (by decide) k5 k6 (fun _ => ?_)
    refine ru_iload_n hX dX3_tell_137 rfl (fun _ => ?_)
    refine ru_aload_n hX dX3_tell_138 rfl (fun _ => ?_)
    refine ru_get (v := .inr (some (0, 0))) hX dX3_tell_139 rfl hp0 rfl (fun _ => ?_)
    refine ru_get (v := .inr (some (1, 0))) hX dX3_tell_142 rfl ⟨by decide, by decide⟩ rfl (fun _ => ?_)
    refine ru_get (v := .inr (some (200, 0))) hX dX3_tell_145 rfl ⟨by decide, by decide⟩ rfl (fun _ => ?_)
    refine ru_iload hX dX3_tell_148 rfl (fun _ => ?_)
    obtain ⟨k7, h⟩ := h
    refine ru_iaload hX dX3_tell_150 ⟨by decide, by decide⟩ rfl k7 (fun _ => ?_)
    obtain ⟨k8, h⟩ := h
    refine ru_i2s hX dX3_tell_151 k8 (fun _ => ?_)
    obtain ⟨j9, hj1, hj2, hj3, h⟩ := h
    refine ru_sastore hX dX3_tell_152 (by decide) hj1 hj2 hj3 k8 (fun _ => ?_)
    refine ru_aload_n hX dX3_tell_153 rfl (fun hok10 => ?_)
    refine ru_get (v := .inr (some (0, 0))) hX dX3_tell_154 rfl hp0 rfl (fun _ => ?_)
    refine ru_get (v := .inr (some (114, 0))) hX dX3_tell_157 rfl ⟨by decide, by decide⟩ rfl (fun _ => ?_)
    refine ru_aload_n hX dX3_tell_160 rfl (fun _ => ?_)
    refine ru_get (v := .inr (some (0, 0))) hX dX3_tell_161 rfl hp0 rfl (fun _ => ?_)
    refine ru_get (v := .inl (σ.1 115 0)) hX dX3_tell_164 rfl ⟨by decide, by decide⟩ rfl (fun _ => ?_)
    obtain ⟨k11, h⟩ := h
    refine ru_raload hX dX3_tell_167 ⟨by decide, by decide⟩ (by decide) k5 k11 (fun _ => ?_)
    refine ru_iload_n hX dX3_tell_168 rfl (fun _ => ?_)
    refine ru_aload_n hX dX3_tell_169 rfl (fun _ => ?_)
    refine ru_get (v := .inr (some (0, 0))) hX dX3_tell_170 rfl hp0 rfl (fun _ => ?_)
    refine ru_get (v := .inr (some (1, 0))) hX dX3_tell_173 rfl ⟨by decide, by decide⟩ rfl (fun _ => ?_)
    refine ru_get (v := .inr (some (201, 0))) hX dX3_tell_176 rfl ⟨by decide, by decide⟩ rfl (fun _ => ?_)
    refine ru_iload hX dX3_tell_179 rfl (fun _ => ?_)
    refine ru_iaload hX dX3_tell_181 ⟨by decide, by decide⟩ rfl k7 (fun _ => ?_)
    obtain ⟨k12, h⟩ := h
    refine ru_i2b hX dX3_tell_182 k12 (fun _ => ?_)
    obtain ⟨j13, hj1, hj2, hj3, h⟩ := h
    refine ru_bastore hX dX3_tell_183 (by decide) hj1 hj2 hj3 k12 (fun _ => ?_)
    refine ru_iinc (ls1 := [some (.inr (some (3, p0))), o1, o2, some (.inl (a3 + (-1))), some (.inl a4)]) hX dX3_tell_184 rfl rfl (fun hok14 => ?_)
    refine ru_aload_n hX dX3_tell_187 rfl (fun _ => ?_)
    refine ru_get (v := .inr (some (0, 0))) hX dX3_tell_188 rfl hp0 rfl (fun _ => ?_)
    refine ru_get (v := .inr (some (1, 0))) hX dX3_tell_191 rfl ⟨by decide, by decide⟩ rfl (fun _ => ?_)
    refine ru_get (v := .inr (some (202, 0))) hX dX3_tell_194 rfl ⟨by decide, by decide⟩ rfl (fun _ => ?_)
    refine ru_iload hX dX3_tell_197 rfl (fun _ => ?_)
    refine ru_iaload hX dX3_tell_199 ⟨by decide, by decide⟩ rfl k7 (fun _ => ?_)
    refine ru_istore (ls1 := [some (.inr (some (3, p0))), o1, o2, some (.inl (a3 + (-1))), some (.inl (σ.2 202 0 a4))]) hX dX3_tell_200 (Nat.le_of_ble_eq_true rfl) rfl (fun _ => ?_)
    refine ru_goto (tgt := 116) hX dX3_tell_202 (by decide) ?_
    exact h
theorem bX3_next_0 {cs ss : Nat → Option (Nat × eh_T)} {lim : Nat × Nat} {Rt : Option eh_V → eh_S → Prop} {X : eh_X} (hX : eh_Ru eh_nX eh_fl3 eh_kn3 cs ss lim Rt 1 cX3_next X) {T138 : eh_T} (hc138 : cs 138 = some (5, T138)) {σ : eh_S}  {p0 : Int} {a1 : Int} {a2 : Int} {o3 : Option eh_V} {o4 : Option eh_V} (hp0 : 0 ≤ p0 ∧ p0 < 8) (h : eh_ok σ → (0 ≤ a1 ∧ a1 < 200) ∧ T138 [.inr (some (3, p0)), .inl (σ.2 413 p0 a1), .inl (σ.2 414 p0 a1), .inl a2, .inl 0] σ (0, 0) (fun r σ1 => X 18 [some (.inr (some (3, p0))), some (.inl a1), some (.inl a2), o3, o4] (r.toList ++ []) σ1 (0, 0))) : X 0 [some (.inr (some (3, p0))), some (.inl a1), some (.inl a2), o3, o4] [] σ (0, 0) := by
  refine ru_ok hX (fun hok => ?_)
  replace h := h hok
  refine ru_aload_n hX dX3_next_0 rfl (fun _ => ?_)
  refine ru_aload_n hX dX3_next_1 rfl (fun _ => ?_)
  refine ru_get (v := .inr (some (413, p0))) hX dX3_next_2 rfl hp0 rfl (fun _ => ?_)
  refine ru_iload_n hX dX3_next_5 rfl (fun _ => ?_)
  obtain ⟨k1, h⟩ := h
  refine ru_iaload hX dX3_next_6 hp0 rfl k1 (fun _ => ?_)
  refine ru_aload_n hX dX3_next_7 rfl (fun _ => ?_)
  refine ru_get (v := .inr (some (414, p0))) hX dX3_next_8 rfl hp0 rfl (fun _ => ?_)
  refine ru_iload_n hX dX3_next_11 rfl (fun _ => ?_)
  refine ru_zaload hX dX3_next_12 (by decide) hp0 rfl k1 (fun _ => ?_)
  refine ru_iload_n hX dX3_next_13 rfl (fun _ => ?_)
  refine ru_iconst hX dX3_next_14 (fun _ => ?_)
  exact ru_callV (as := [.inr (some (3, p0)), .inl (σ.2 413 p0 a1), .inl (σ.2 414 p0 a1), .inl a2, .inl 0]) (rest := []) hX dX3_next_15 hc138 rfl (Nat.le_of_ble_eq_true rfl) (0, 0) ⟨Nat.zero_le _, Nat.zero_le _⟩ h
theorem bX3_next_18 {cs ss : Nat → Option (Nat × eh_T)} {lim : Nat × Nat} {Rt : Option eh_V → eh_S → Prop} {X : eh_X} (hX : eh_Ru eh_nX eh_fl3 eh_kn3 cs ss lim Rt 1 cX3_next X) {T142 : eh_T} (hc142 : cs 142 = some (4, T142)) {σ : eh_S}  {p0 : Int} {a1 : Int} {a2 : Int} {o3 : Option eh_V} {o4 : Option eh_V} {s0 : Int} (hp0 : 0 ≤ p0 ∧ p0 < 8) (h : eh_ok σ → (-2147483648 ≤ s0 ∧ s0 < 2147483648) ∧ ((s0 = (-1) → Rt (some (.inl 0)) σ) ∧ (¬ s0 = (-1) → (0 ≤ a1 ∧ a1 < 200) ∧ T142 [.inr (some (1, 0)), .inl a2, .inl s0, .inl (σ.2 413 p0 a1)] σ (0, 0) (fun r σ1 => X 53 [some (.inr (some (3, p0))), some (.inl a1), some (.inl a2), some (.inl s0), some (.inl (σ.2 413 p0 a1))] (r.toList ++ [.inl a1, .inr (some (413, p0))]) σ1 (0, 0))))) : X 18 [some (.inr (some (3, p0))), some (.inl a1), some (.inl a2), o3, o4] [.inl s0] σ (0, 0) := by
  refine ru_ok hX (fun hok => ?_)
  replace h := h hok
  refine ru_istore_n (ls1 := [some (.inr (some (3, p0))), some (.inl a1), some (.inl a2), some (.inl s0), o4]) hX dX3_next_18 (Nat.le_of_ble_eq_true rfl) rfl (fun _ => ?_)
  refine ru_iload_n hX dX3_next_19 rfl (fun _ => ?_)
  refine ru_iconst hX dX3_next_20 (fun _ => ?_)
  obtain ⟨k1, h⟩ := h
  refine ru_icmp_ne (tgt := 26) hX dX3_next_21 (by decide) k1 (by unfold eh_r; decide) (fun q => ?_) (fun q => ?_)
  · have q2 := q
    replace h := h.2 q2
    refine ru_aload_n hX dX3_next_26 rfl (fun _ => ?_)
    refine ru_get (v := .inr (some (413, p0))) hX dX3_next_27 rfl hp0 rfl (fun _ => ?_)
    refine ru_iload_n hX dX3_next_30 rfl (fun _ => ?_)
    obtain ⟨k3, h⟩ := h
    refine ru_iaload hX dX3_next_31 hp0 rfl k3 (fun _ => ?_)
    refine ru_istore (ls1 := [some (.inr (some (3, p0))), some (.inl a1), some (.inl a2), some (.inl s0), some (.inl (σ.2 413 p0 a1))]) hX dX3_next_32 (Nat.le_of_ble_eq_true rfl) rfl (fun _ => ?_)
    refine ru_aload_n hX dX3_next_34 rfl (fun _ => ?_)
    refine ru_get (v := .inr (some (413, p0))) hX dX3_next_35 rfl hp0 rfl (fun _ => ?_)
    refine ru_iload_n hX dX3_next_38 rfl (fun _ => ?_)
    refine ru_aload_n hX dX3_next_39 rfl (fun _ => ?_)
    refine ru_get (v := .inr (some (0, 0))) hX dX3_next_40 rfl hp0 rfl (fun _ => ?_)
    refine ru_get (v := .inr (some (1, 0))) hX dX3_next_43 rfl ⟨by decide, by decide⟩ rfl (fun _ => ?_)
    refine ru_iload_n hX dX3_next_46 rfl (fun _ => ?_)
    refine ru_iload_n hX dX3_next_47 rfl (fun _ => ?_)
    refine ru_iload hX dX3_next_48 rfl (fun _ => ?_)
    exact ru_callV (as := [.inr (some (1, 0)), .inl a2, .inl s0, .inl (σ.2 413 p0 a1)]) (rest := [.inl a1, .inr (some (413, p0))]) hX dX3_next_50 hc142 rfl (Nat.le_of_ble_eq_true rfl) (0, 0) ⟨Nat.zero_le _, Nat.zero_le _⟩ h
  · have q4 := q
    replace h := h.1 q4
    refine ru_iconst hX dX3_next_24 (fun _ => ?_)
    exact ru_ireturn hX dX3_next_25 (Or.inr ⟨rfl, by decide⟩) ⟨Nat.zero_le _, Nat.zero_le _⟩ (fun _ => h)
theorem bX3_next_53 {cs ss : Nat → Option (Nat × eh_T)} {lim : Nat × Nat} {Rt : Option eh_V → eh_S → Prop} {X : eh_X} (hX : eh_Ru eh_nX eh_fl3 eh_kn3 cs ss lim Rt 1 cX3_next X) {T120 : eh_T} (hc120 : cs 120 = some (2, T120)) {σ : eh_S}  {p0 : Int} {a1 : Int} {o2 : Option eh_V} {o3 : Option eh_V} {a4 : Int} {s0 : Int} {s1 : Int} {t2 : Int} (hp0 : 0 ≤ p0 ∧ p0 < 8) (ht2 : 0 ≤ t2 ∧ t2 < 8) (h : eh_ok σ → (0 ≤ s1 ∧ s1 < 200) ∧ (-2147483648 ≤ s0 ∧ s0 < 2147483648) ∧ T120 [.inr (some (1, 0)), .inl a4] (eh_sA σ 413 t2 s1 s0) (0, 0) (fun r σ1 => X 66 [some (.inr (some (3, p0))), some (.inl a1), o2, o3, some (.inl a4)] (r.toList ++ []) σ1 (0, 0))) : X 53 [some (.inr (some (3, p0))), some (.inl a1), o2, o3, some (.inl a4)] [.inl s0, .inl s1, .inr (some (413, t2))] σ (0, 0) := by
  refine ru_ok hX (fun hok => ?_)
  replace h := h hok
  obtain ⟨k1, h⟩ := h
  obtain ⟨k2, h⟩ := h
  refine ru_iastore hX dX3_next_53 ht2 rfl k1 k2 (fun _ => ?_)
  refine ru_aload_n hX dX3_next_54 rfl (fun hok3 => ?_)
  refine ru_get (v := .inr (some (0, 0))) hX dX3_next_55 rfl hp0 rfl (fun _ => ?_)
  refine ru_get (v := .inr (some (1, 0))) hX dX3_next_58 rfl ⟨by decide, by decide⟩ rfl (fun _ => ?_)
  refine ru_iload hX dX3_next_61 rfl (fun _ => ?_)
  exact ru_callV (as := [.inr (some (1, 0)), .inl a4]) (rest := []) hX dX3_next_63 hc120 rfl (Nat.le_of_ble_eq_true rfl) (0, 0) ⟨Nat.zero_le _, Nat.zero_le _⟩ h
theorem bX3_next_66 {cs ss : Nat → Option (Nat × eh_T)} {lim : Nat × Nat} {Rt : Option eh_V → eh_S → Prop} {X : eh_X} (hX : eh_Ru eh_nX eh_fl3 eh_kn3 cs ss lim Rt 1 cX3_next X)  {σ : eh_S}  {p0 : Int} {a1 : Int} {o2 : Option eh_V} {o3 : Option eh_V} {o4 : Option eh_V} (hp0 : 0 ≤ p0 ∧ p0 < 8) (h : eh_ok σ → (0 ≤ a1 ∧ a1 < 200) ∧ Rt (some (.inl 1)) (eh_sA σ 414 p0 a1 0)) : X 66 [some (.inr (some (3, p0))), some (.inl a1), o2, o3, o4] [] σ (0, 0) := by
  refine ru_ok hX (fun hok => ?_)
  replace h := h hok
  refine ru_aload_n hX dX3_next_66 rfl (fun _ => ?_)
  refine ru_get (v := .inr (some (414, p0))) hX dX3_next_67 rfl hp0 rfl (fun _ => ?_)
  refine ru_iload_n hX dX3_next_70 rfl (fun _ => ?_)
  refine ru_iconst hX dX3_next_71 (fun _ => ?_)
  obtain ⟨k1, h⟩ := h
  refine ru_zastore hX dX3_next_72 (by decide) hp0 rfl k1 (by decide) (fun _ => ?_)
  refine ru_iconst hX dX3_next_73 (fun hok2 => ?_)
  exact ru_ireturn hX dX3_next_74 (Or.inr ⟨rfl, by decide⟩) ⟨Nat.zero_le _, Nat.zero_le _⟩ (fun _ => h)
theorem bX3_isHurtBy_0 {cs ss : Nat → Option (Nat × eh_T)} {lim : Nat × Nat} {Rt : Option eh_V → eh_S → Prop} {X : eh_X} (hX : eh_Ru eh_nX eh_fl3 eh_kn3 cs ss lim Rt 1 cX3_isHurtBy X) {T68 : eh_T} (hc68 : cs 68 = some (4, T68)) {σ : eh_S}  {p0 : Int} {a1 : Int} {a2 : Int} {o3 : Option eh_V} (hp0 : 0 ≤ p0 ∧ p0 < 8) (h : eh_ok σ → (0 ≤ a1 ∧ a1 < 200) ∧ (0 ≤ σ.2 413 p0 a1 ∧ σ.2 413 p0 a1 < 38424) ∧ (-2147483648 ≤ (σ.2 201 0 (σ.2 413 p0 a1)) + 1 ∧ (σ.2 201 0 (σ.2 413 p0 a1)) + 1 < 2147483648) ∧ (-2147483648 ≤ (σ.1 403 p0) - 1 ∧ (σ.1 403 p0) - 1 < 2147483648) ∧ (((σ.1 403 p0) - 1 ≤ (σ.2 201 0 (σ.2 413 p0 a1)) + 1 → Rt (some (.inl 0)) σ) ∧ (¬ (σ.1 403 p0) - 1 ≤ (σ.2 201 0 (σ.2 413 p0 a1)) + 1 → (0 ≤ (σ.2 201 0 (σ.2 413 p0 a1)) + 1 ∧ (σ.2 201 0 (σ.2 413 p0 a1)) + 1 < 6) ∧ ((σ.2 404 p0 ((σ.2 201 0 (σ.2 413 p0 a1)) + 1) = 3 → T68 [.inr (some (3, p0)), .inl ((σ.2 201 0 (σ.2 413 p0 a1)) + 1), .inl (σ.2 413 p0 a1), .inl a2] σ (0, 0) (fun r σ1 => X 52 [some (.inr (some (3, p0))), some (.inl a1), some (.inl a2), some (.inl ((σ.2 201 0 (σ.2 413 p0 a1)) + 1))] (r.toList ++ []) σ1 (0, 0))) ∧ (¬ σ.2 404 p0 ((σ.2 201 0 (σ.2 413 p0 a1)) + 1) = 3 → Rt (some (.inl 0)) σ))))) : X 0 [some (.inr (some (3, p0))), some (.inl a1), some (.inl a2), o3] [] σ (0, 0) := by
  refine ru_ok hX (fun hok => ?_)
  replace h := h hok
  refine ru_aload_n hX dX3_isHurtBy_0 rfl (fun _ => ?_)
  refine ru_get (v := .inr (some (0, 0))) hX dX3_isHurtBy_1 rfl hp0 rfl (fun _ => ?_)
  refine ru_get (v := .inr (some (1, 0))) hX dX3_isHurtBy_4 rfl ⟨by decide, by decide⟩ rfl (fun _ => ?_)
  refine ru_get (v := .inr (some (201, 0))) hX dX3_isHurtBy_7 rfl ⟨by decide, by decide⟩ rfl (fun _ => ?_)
  refine ru_aload_n hX dX3_isHurtBy_10 rfl (fun _ => ?_)
  refine ru_get (v := .inr (some (413, p0))) hX dX3_isHurtBy_11 rfl hp0 rfl (fun _ => ?_)
  refine ru_iload_n hX dX3_isHurtBy_14 rfl (fun _ => ?_)
  obtain ⟨k1, h⟩ := h
  refine ru_iaload hX dX3_isHurtBy_15 hp0 rfl k1 (fun _ => ?_)
  obtain ⟨k2, h⟩ := h
  refine ru_iaload hX dX3_isHurtBy_16 ⟨by decide, by decide⟩ rfl k2 (fun _ => ?_)
  refine ru_iconst hX dX3_isHurtBy_17 (fun _ => ?_)
  refine ru_iadd hX dX3_isHurtBy_18 (fun _ => ?_)
  refine ru_istore_n (ls1 := [some (.inr (some (3, p0))), some (.inl a1), some (.inl a2), some (.inl ((σ.2 201 0 (σ.2 413 p0 a1)) + 1))]) hX dX3_isHurtBy_19 (Nat.le_of_ble_eq_true rfl) rfl (fun _ => ?_)
  refine ru_iload_n hX dX3_isHurtBy_20 rfl (fun _ => ?_)
  refine ru_aload_n hX dX3_isHurtBy_21 rfl (fun _ => ?_)
  refine ru_get (v := .inl (σ.1 403 p0)) hX dX3_isHurtBy_22 rfl hp0 rfl (fun _ => ?_)
  refine ru_iconst hX dX3_isHurtBy_25 (fun _ => ?_)
  refine ru_isub hX dX3_isHurtBy_26 (fun _ => ?_)
  obtain ⟨k3, h⟩ := h
  obtain ⟨k4, h⟩ := h
  refine ru_icmp_ge (tgt := 59) hX dX3_isHurtBy_27 (by decide) k3 k4 (fun q => ?_) (fun q => ?_)
  · have q5 := q
    replace h := h.1 q5
    refine ru_iconst hX dX3_isHurtBy_59 (fun _ => ?_)
    exact ru_ireturn hX dX3_isHurtBy_60 (Or.inr ⟨rfl, by decide⟩) ⟨Nat.zero_le _, Nat.zero_le _⟩ (fun _ => h)
  · have q6 := q
    replace h := h.2 q6
    refine ru_aload_n hX dX3_isHurtBy_30 rfl (fun _ => ?_)
    refine ru_get (v := .inr (some (404, p0))) hX dX3_isHurtBy_31 rfl hp0 rfl (fun _ => ?_)
    refine ru_iload_n hX dX3_isHurtBy_34 rfl (fun _ => ?_)
    obtain ⟨k7, h⟩ := h
    refine ru_iaload hX dX3_isHurtBy_35 hp0 rfl k7 (fun _ => ?_)
    refine ru_iconst hX dX3_isHurtBy_36 (fun _ => ?_)
    refine ru_icmp_ne (tgt := 59) hX dX3_isHurtBy_37 (by decide) (hok.2 _ _ _ (by decide) (by decide) (by decide) (by decide)) (by unfold eh_r; decide) (fun q => ?_) (fun q => ?_)
    · have q8 := q
      replace h := h.2 q8
      refine ru_iconst hX dX3_isHurtBy_59 (fun _ => ?_)
      exact ru_ireturn hX dX3_isHurtBy_60 (Or.inr ⟨rfl, by decide⟩) ⟨Nat.zero_le _, Nat.zero_le _⟩ (fun _ => h)
    · have q9 := q
      replace h := h.1 q9
      refine ru_aload_n hX dX3_isHurtBy_40 rfl (fun _ => ?_)
      refine ru_iload_n hX dX3_isHurtBy_41 rfl (fun _ => ?_)
      refine ru_aload_n hX dX3_isHurtBy_42 rfl (fun _ => ?_)
      refine ru_get (v := .inr (some (413, p0))) hX dX3_isHurtBy_43 rfl hp0 rfl (fun _ => ?_)
      refine ru_iload_n hX dX3_isHurtBy_46 rfl (fun _ => ?_)
      refine ru_iaload hX dX3_isHurtBy_47 hp0 rfl k1 (fun _ => ?_)
      refine ru_iload_n hX dX3_isHurtBy_48 rfl (fun _ => ?_)
      exact ru_callV (as := [.inr (some (3, p0)), .inl ((σ.2 201 0 (σ.2 413 p0 a1)) + 1), .inl (σ.2 413 p0 a1), .inl a2]) (rest := []) hX dX3_isHurtBy_49 hc68 rfl (Nat.le_of_ble_eq_true rfl) (0, 0) ⟨Nat.zero_le _, Nat.zero_le _⟩ h
theorem bX3_isHurtBy_52 {cs ss : Nat → Option (Nat × eh_T)} {lim : Nat × Nat} {Rt : Option eh_V → eh_S → Prop} {X : eh_X} (hX : eh_Ru eh_nX eh_fl3 eh_kn3 cs ss lim Rt 1 cX3_isHurtBy X)  {σ : eh_S}  {o0 : Option eh_V} {o1 : Option eh_V} {o2 : Option eh_V} {o3 : Option eh_V} {s0 : Int}  (h : eh_ok σ → (-2147483648 ≤ s0 ∧ s0 < 2147483648) ∧ ((s0 = 0 → Rt (some (.inl 0)) σ) ∧ (¬ s0 = 0 → Rt (some (.inl 1)) σ))) : X 52 [o0, o1, o2, o3] [.inl s0] σ (0, 0) := by
  refine ru_ok hX (fun hok => ?_)
  replace h := h hok
  obtain ⟨k1, h⟩ := h
  refine ru_if_eq (tgt := 59) hX dX3_isHurtBy_52 (by decide) k1 (fun q => ?_) (fun q => ?_)
  · have q2 := q
    replace h := h.1 q2
    refine ru_iconst hX dX3_isHurtBy_59 (fun _ => ?_)
    exact ru_ireturn hX dX3_isHurtBy_60 (Or.inr ⟨rfl, by decide⟩) ⟨Nat.zero_le _, Nat.zero_le _⟩ (fun _ => h)
  · have q3 := q
    replace h := h.2 q3
    refine ru_iconst hX dX3_isHurtBy_55 (fun _ => ?_)
    refine ru_goto (tgt := 60) hX dX3_isHurtBy_56 (by decide) ?_
    exact ru_ireturn hX dX3_isHurtBy_60 (Or.inr ⟨rfl, by decide⟩) ⟨Nat.zero_le _, Nat.zero_le _⟩ (fun _ => h)
theorem bX3_lacks_0 {cs ss : Nat → Option (Nat × eh_T)} {lim : Nat × Nat} {Rt : Option eh_V → eh_S → Prop} {X : eh_X} (hX : eh_Ru eh_nX eh_fl3 eh_kn3 cs ss lim Rt 0 cX3_lacks X)  {σ : eh_S}  {p0 : Int} {a1 : Int} {o2 : Option eh_V} {o3 : Option eh_V} (hp0 : 0 ≤ p0 ∧ p0 < 8) (h : eh_ok σ → (0 ≤ a1 ∧ a1 < 38424) ∧ X 17 [some (.inr (some (3, p0))), some (.inl a1), some (.inl 0), some (.inl ((σ.2 201 0 a1) + 1))] [] σ (0, 0)) : X 0 [some (.inr (some (3, p0))), some (.inl a1), o2, o3] [] σ (0, 0) := by
  refine ru_ok hX (fun hok => ?_)
  replace h := h hok
  refine ru_iconst hX dX3_lacks_0 (fun _ => ?_)
  refine ru_istore_n (ls1 := [some (.inr (some (3, p0))), some (.inl a1), some (.inl 0), o3]) hX dX3_lacks_1 (Nat.le_of_ble_eq_true rfl) rfl (fun _ => ?_)
  refine ru_aload_n hX dX3_lacks_2 rfl (fun _ => ?_)
  refine ru_get (v := .inr (some (0, 0))) hX dX3_lacks_3 rfl hp0 rfl (fun _ => ?_)
  refine ru_get (v := .inr (some (1, 0))) hX dX3_lacks_6 rfl ⟨by decide, by decide⟩ rfl (fun _ => ?_)
  refine ru_get (v := .inr (some (201, 0))) hX dX3_lacks_9 rfl ⟨by decide, by decide⟩ rfl (fun _ => ?_)
  refine ru_iload_n hX dX3_lacks_12 rfl (fun _ => ?_)
  obtain ⟨k1, h⟩ := h
  refine ru_iaload hX dX3_lacks_13 ⟨by decide, by decide⟩ rfl k1 (fun _ => ?_)
  refine ru_iconst hX dX3_lacks_14 (fun _ => ?_)
  refine ru_iadd hX dX3_lacks_15 (fun _ => ?_)
  refine ru_istore_n (ls1 := [some (.inr (some (3, p0))), some (.inl a1), some (.inl 0), some (.inl ((σ.2 201 0 a1) + 1))]) hX dX3_lacks_16 (Nat.le_of_ble_eq_true rfl) rfl (fun _ => ?_)
  exact h
theorem bX3_lacks_17 {cs ss : Nat → Option (Nat × eh_T)} {lim : Nat × Nat} {Rt : Option eh_V → eh_S → Prop} {X : eh_X} (hX : eh_Ru eh_nX eh_fl3 eh_kn3 cs ss lim Rt 0 cX3_lacks X)  {σ : eh_S}  {p0 : Int} {o1 : Option eh_V} {a2 : Int} {a3 : Int} (hp0 : 0 ≤ p0 ∧ p0 < 8) (h : eh_ok σ → (-2147483648 ≤ a3 ∧ a3 < 2147483648) ∧ ((σ.1 403 p0 ≤ a3 → Rt (some (.inl a2)) σ) ∧ (¬ σ.1 403 p0 ≤ a3 → (0 ≤ a3 ∧ a3 < 6) ∧ ((σ.2 404 p0 a3 = 0 → X 17 [some (.inr (some (3, p0))), o1, some (.inl (a2 + 1)), some (.inl (a3 + 1))] [] σ (0, 0)) ∧ (¬ σ.2 404 p0 a3 = 0 → ((σ.2 404 p0 a3 = 1 → X 17 [some (.inr (some (3, p0))), o1, some (.inl (a2 + 1)), some (.inl (a3 + 1))] [] σ (0, 0)) ∧ (¬ σ.2 404 p0 a3 = 1 → X 17 [some (.inr (some (3, p0))), o1, some (.inl (a2 + 0)), some (.inl (a3 + 1))] [] σ (0, 0)))))))) : X 17 [some (.inr (some (3, p0))), o1, some (.inl a2), some (.inl a3)] [] σ (0, 0) := by
  refine ru_ok hX (fun hok => ?_)
  replace h := h hok
  refine ru_iload_n hX dX3_lacks_17 rfl (fun _ => ?_)
  refine ru_aload_n hX dX3_lacks_18 rfl (fun _ => ?_)
  refine ru_get (v := .inl (σ.1 403 p0)) hX dX3_lacks_19 rfl hp0 rfl (fun _ => ?_)
  obtain ⟨k1, h⟩ := h
  refine ru_icmp_ge (tgt := 58) hX dX3_lacks_22 (by decide) k1 (hok.1 _ _) (fun q => ?_) (fun q => ?_)
  · have q2 := q
    replace h := h.1 q2
    refine ru_iload_n hX dX3_lacks_58 rfl (fun _ => ?_)
    exact ru_ireturn hX dX3_lacks_59 (Or.inl rfl) ⟨Nat.zero_le _, Nat.zero_le _⟩ (fun _ => h)
  · have q3 := q
    replace h := h.2 q3
    refine ru_iload_n hX dX3_lacks_25 rfl (fun _ => ?_)
    refine ru_aload_n hX dX3_lacks_26 rfl (fun _ => ?_)
    refine ru_get (v := .inr (some (404, p0))) hX dX3_lacks_27 rfl hp0 rfl (fun _ => ?_)
    refine ru_iload_n hX dX3_lacks_30 rfl (fun _ => ?_)
    obtain ⟨k4, h⟩ := h
    refine ru_iaload hX dX3_lacks_31 hp0 rfl k4 (fun _ => ?_)
    refine ru_if_eq (tgt := 45) hX dX3_lacks_32 (by decide) (hok.2 _ _ _ (by decide) (by decide) (by decide) (by decide)) (fun q => ?_) (fun q => ?_)
    · have q5 := q
      replace h := h.1 q5
      refine ru_iconst hX dX3_lacks_45 (fun _ => ?_)
      refine ru_goto (tgt := 50) hX dX3_lacks_46 (by decide) ?_
      refine ru_iadd hX dX3_lacks_50 (fun _ => ?_)
      refine ru_istore_n (ls1 := [some (.inr (some (3, p0))), o1, some (.inl (a2 + 1)), some (.inl a3)]) hX dX3_lacks_51 (Nat.le_of_ble_eq_true rfl) rfl (fun _ => ?_)
      refine ru_iinc (ls1 := [some (.inr (some (3, p0))), o1, some (.inl (a2 + 1)), some (.inl (a3 + 1))]) hX dX3_lacks_52 rfl rfl (fun _ => ?_)
      refine ru_goto (tgt := 17) hX dX3_lacks_55 (by decide) ?_
      exact h
    · have q6 := q
      replace h := h.2 q6
      refine ru_aload_n hX dX3_lacks_35 rfl (fun _ => ?_)
      refine ru_get (v := .inr (some (404, p0))) hX dX3_lacks_36 rfl hp0 rfl (fun _ => ?_)
      refine ru_iload_n hX dX3_lacks_39 rfl (fun _ => ?_)
      refine ru_iaload hX dX3_lacks_40 hp0 rfl k4 (fun _ => ?_)
      refine ru_iconst hX dX3_lacks_41 (fun _ => ?_)
      refine ru_icmp_ne (tgt := 49) hX dX3_lacks_42 (by decide) (hok.2 _ _ _ (by decide) (by decide) (by decide) (by decide)) (by unfold eh_r; decide) (fun q => ?_) (fun q => ?_)
      · have q7 := q
        replace h := h.2 q7
        refine ru_iconst hX dX3_lacks_49 (fun _ => ?_)
        refine ru_iadd hX dX3_lacks_50 (fun _ => ?_)
        refine ru_istore_n (ls1 := [some (.inr (some (3, p0))), o1, some (.inl (a2 + 0)), some (.inl a3)]) hX dX3_lacks_51 (Nat.le_of_ble_eq_true rfl) rfl (fun _ => ?_)
        refine ru_iinc (ls1 := [some (.inr (some (3, p0))), o1, some (.inl (a2 + 0)), some (.inl (a3 + 1))]) hX dX3_lacks_52 rfl rfl (fun _ => ?_)
        refine ru_goto (tgt := 17) hX dX3_lacks_55 (by decide) ?_
        exact h
      · have q8 := q
        replace h := h.1 q8
        refine ru_iconst hX dX3_lacks_45 (fun _ => ?_)
        refine ru_goto (tgt := 50) hX dX3_lacks_46 (by decide) ?_
        refine ru_iadd hX dX3_lacks_50 (fun _ => ?_)
        refine ru_istore_n (ls1 := [some (.inr (some (3, p0))), o1, some (.inl (a2 + 1)), some (.inl a3)]) hX dX3_lacks_51 (Nat.le_of_ble_eq_true rfl) rfl (fun _ => ?_)
        refine ru_iinc (ls1 := [some (.inr (some (3, p0))), o1, some (.inl (a2 + 1)), some (.inl (a3 + 1))]) hX dX3_lacks_52 rfl rfl (fun _ => ?_)
        refine ru_goto (tgt := 17) hX dX3_lacks_55 (by decide) ?_
        exact h
