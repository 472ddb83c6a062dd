/-! the constructor of EventHunter: its straight part is printed by gen57.py -/
section ECG
variable {p : Program} {l : Launch} {e : Env} {R : Room} {s : State} {m : MethodId} {args : Array Value} {below : List Frame} {meth : Method} {c : Code}
variable {D : va_G} {tc : Nat → ClassId} {A : Nat → Prop} {cc : ByteArray} {Q : State → Prop} {own : String}
variable {pc : Nat} {H : Heap} {locs : List Loc} {ls : Array Slot} {cells slots : Nat} {rest : List Value}
theorem ec_get {ci : Nat} {C : String} {T : u_T} {N : Nat} {ty : Nat → FieldType} (hx : p.tables.exec = Jvm.exec) (hb : c.code = cc) (hown : s.vm.findClass own = some m.cls) (hts : ∀ w ∈ lw_all, w.before args s = true) (hK : eh_K D tc s) (hC : ec_C ci C T N ty) (k : Nat) (hk : k < N) {idx : Nat} (hlink : Cond.fieldLink own idx (T k).1 (T k).2.1 (T k).2.2.1 ∈ lw_all) {h : Nat} {g : Nat → Value} {ws : va_W} (hP : va_P D eh_cl ((h, .inr (ci, ec_f ci g)) :: ws) H) {v : Value} (hv : g k = v) (hdg : decode cc pc = .ok (.getfield idx, 3))
    (kk : W p l e R s m args below meth c H locs cells slots Q (F0 m (pc + 3) ls (v :: rest))) : W p l e R s m args below meth c H locs cells slots Q (F0 m pc ls (.ref h :: rest)) := by
  obtain ⟨hcl, hN, hty, hnm, hinw⟩ := hC
  subst hv
  exact va_get hx hb hts hinw hown hK.1 hP 0 rfl hcl k hk (hts _ hlink) (fun _ h => h) (ec_f_at (by rw [hN]; exact hk)) hdg kk
end ECG
def ec_T (tc : Nat → ClassId) (h : Nat) (a : Nat → Nat) (gg : Nat → Nat → Nat) (i : Nat) : va_W := (List.range i).flatMap (fun j => ec_W tc (fun _ => h) 3 (a j) (gg j) [4, 5, 6, 7, 8, 13, 14])
theorem ec_T_up {tc : Nat → ClassId} {h q i : Nat} {a g : Nat → Nat} {gg : Nat → Nat → Nat} : ec_T tc h a gg i ++ ec_W tc (fun _ => h) 3 q g [4, 5, 6, 7, 8, 13, 14] = ec_T tc h (fun j => if j = i then q else a j) (fun j => if j = i then g else gg j) (i + 1) := by
  unfold ec_T
  rw [List.range_succ, List.flatMap_append, List.flatMap_singleton]
  congr 1
  · refine ls_fm_congr (fun j hj => ?_)
    have := List.mem_range.mp hj
    have hji : j ≠ i := by omega
    dsimp only
    rw [if_neg hji, if_neg hji]
  · dsimp only
    rw [if_pos rfl, if_pos rfl]
def ec_r (a : Nat → Nat) (i : Nat) : Nat → Option Nat := fun j => if j < i then some (a j) else none
theorem ec_r_up {a : Nat → Nat} {i q : Nat} : va_up (ec_r a i) i (some q) = ec_r (fun j => if j = i then q else a j) (i + 1) := by
  funext j
  unfold va_up ec_r
  by_cases h : j = i
  · rw [if_pos h, if_pos (by omega)]
    dsimp only
    rw [if_pos h]
  · rw [if_neg h]
    dsimp only
    rw [if_neg h]
    by_cases h2 : j < i
    · rw [if_pos h2, if_pos (by omega)]
    · rw [if_neg h2, if_neg (by omega)]
/-- the 21 cells that are there before the patterns -/
def ec_l1 (tc : Nat → ClassId) (h : Nat) (g gw : Nat → Nat) (n : Nat) : va_W := (h, .inr (0, ec_f 0 (ec_G (fun j => if j = 1 then g 10 else g 19) 0 g))) :: (g 0, .inl (tc 0, 16, .inl (ec_p n))) :: ([1, 2, 3, 4, 9].map (ec_a tc 0 g) ++ ec_W tc (fun _ => 0) 1 (g 10) gw [0, 1, 2, 3] ++ [11, 12].map (ec_a tc 0 g) ++ [(g 13, .inl (tc 4, 1000, .inr (.inr (.inr (.inr (fun _ => none)))))), (g 14, .inl (tc 5, 1000, .inr (.inr (.inr (.inr (fun _ => none))))))])
def ec_l2 (tc : Nat → ClassId) (h : Nat) (g gp : Nat → Nat) : va_W := ec_W tc (fun _ => h) 2 (g 19) gp [0, 1] ++ [ec_a tc 0 g 20]
def ec_xw (tc : Nat → ClassId) (h : Nat) (g gw gp a : Nat → Nat) (gg : Nat → Nat → Nat) (n i : Nat) : va_W := ec_l1 tc h g gw n ++ (g 17, .inl (tc 6, 8, .inr (.inr (.inr (.inr (ec_r a i)))))) :: (ec_l2 tc h g gp ++ ec_T tc h a gg i)
theorem ec_def1 : ∀ j, j < 6 → defaultValue (tyX1 j) = ec_d 1 j := by
  intro j hj
  rcases (show j = 0 ∨ j = 1 ∨ j = 2 ∨ j = 3 ∨ j = 4 ∨ j = 5 by omega) with rfl | rfl | rfl | rfl | rfl | rfl <;> rfl
theorem ec_def2 : ∀ j, j < 5 → defaultValue (tyX2 j) = ec_d 2 j := by
  intro j hj
  rcases (show j = 0 ∨ j = 1 ∨ j = 2 ∨ j = 3 ∨ j = 4 by omega) with rfl | rfl | rfl | rfl | rfl <;> rfl
theorem ec_def3 : ∀ j, j < 17 → defaultValue (tyX3 j) = ec_d 3 j := by
  intro j hj
  rcases (show j = 0 ∨ j = 1 ∨ j = 2 ∨ j = 3 ∨ j = 4 ∨ j = 5 ∨ j = 6 ∨ j = 7 ∨ j = 8 ∨ j = 9 ∨ j = 10 ∨ j = 11 ∨ j = 12 ∨ j = 13 ∨ j = 14 ∨ j = 15 ∨ j = 16 by omega) with rfl | rfl | rfl | rfl | rfl | rfl | rfl | rfl | rfl | rfl | rfl | rfl | rfl | rfl | rfl | rfl | rfl <;> rfl
set_option maxHeartbeats 8000000 in
set_option maxRecDepth 100000 in
theorem ec_c0 (l : Launch) (D : va_G) (tc : Nat → ClassId) (h : Nat) : ec_M l D tc yX0_init cX0_init 2 2 84 169335 (ec_X tc) [.ref h] [(h, .inr (0, ec_f 0 (ec_d 0)))] (fun ws' => ∃ (g gw gp a : Nat → Nat) (gg : Nat → Nat → Nat), ws' = ec_xw tc h g gw gp a gg 16 8) := by
  refine ec_mk (by decide) (Nat.le_of_ble_eq_true rfl) rfl (fun p e R s m below meth c Q A la hx hb hml hown hts hK hX hin hA hR hend hP hD hS hl => ?_)
  have hl : lv_has la 2 [(0, .ref h)] := hl
  refine lv_aload_n hx hb dX0_init_0 rfl (lv_at hl 0 rfl) ?_
  refine W.objInit hx hb hown (hts _ q57) (hts _ q58) (hts _ q59) rfl (by rw [hml]; exact hl.1) rfl dX0_init_1 (by rw [hR.2.2.1]; exact Nat.le_of_ble_eq_true rfl) (by rw [hR.2.2.2]; exact Nat.le_of_ble_eq_true rfl) ?_
  refine W.eq (g2 := F0 m 4 la []) rfl ?_
  refine lv_aload_n hx hb dX0_init_4 rfl (lv_at hl 0 rfl) ?_
  refine lv_bipush (v := 16) hx hb dX0_init_5 rfl ?_
  refine ec_arr hx hb hown hts hK hin hA ec_C0 0 (by decide) rfl q201 (d := .int) rfl 0 (by decide) (x := 16) (n := 16) (by decide) rfl (by decide) hP hD hS (by rw [hR.1]; exact Nat.le_of_ble_eq_true rfl) (by rw [hR.2.1]; exact Nat.le_of_ble_eq_true rfl) dX0_init_7 dX0_init_9 (fun q0 H1 locs1 hP hD hS => ?_)
  rw [ec_p_0] at hP hD
  refine lv_aload_n hx hb dX0_init_12 rfl (lv_at hl 0 rfl) ?_
  refine lv_sipush (v := 1000) hx hb dX0_init_13 rfl ?_
  refine ec_arr hx hb hown hts hK hin hA ec_C0 1 (by decide) rfl q203 (d := .int) rfl 0 (by decide) (x := 1000) (n := 1000) (by decide) rfl (by decide) hP hD hS (by rw [hR.1]; exact Nat.le_of_ble_eq_true rfl) (by rw [hR.2.1]; exact Nat.le_of_ble_eq_true rfl) dX0_init_16 dX0_init_18 (fun q1 H1 locs1 hP hD hS => ?_)
  refine lv_aload_n hx hb dX0_init_21 rfl (lv_at hl 0 rfl) ?_
  refine lv_sipush (v := 1000) hx hb dX0_init_22 rfl ?_
  refine ec_arr hx hb hown hts hK hin hA ec_C0 2 (by decide) rfl q205 (d := .int) rfl 0 (by decide) (x := 1000) (n := 1000) (by decide) rfl (by decide) hP hD hS (by rw [hR.1]; exact Nat.le_of_ble_eq_true rfl) (by rw [hR.2.1]; exact Nat.le_of_ble_eq_true rfl) dX0_init_25 dX0_init_27 (fun q2 H1 locs1 hP hD hS => ?_)
  refine lv_aload_n hx hb dX0_init_30 rfl (lv_at hl 0 rfl) ?_
  refine lv_sipush (v := 1000) hx hb dX0_init_31 rfl ?_
  refine ec_arr hx hb hown hts hK hin hA ec_C0 3 (by decide) rfl q208 (d := .int) rfl 0 (by decide) (x := 1000) (n := 1000) (by decide) rfl (by decide) hP hD hS (by rw [hR.1]; exact Nat.le_of_ble_eq_true rfl) (by rw [hR.2.1]; exact Nat.le_of_ble_eq_true rfl) dX0_init_34 dX0_init_36 (fun q3 H1 locs1 hP hD hS => ?_)
  refine lv_aload_n hx hb dX0_init_39 rfl (lv_at hl 0 rfl) ?_
  refine lv_sipush (v := 4000) hx hb dX0_init_40 rfl ?_
  refine ec_arr hx hb hown hts hK hin hA ec_C0 4 (by decide) rfl q210 (d := .int) rfl 0 (by decide) (x := 4000) (n := 4000) (by decide) rfl (by decide) hP hD hS (by rw [hR.1]; exact Nat.le_of_ble_eq_true rfl) (by rw [hR.2.1]; exact Nat.le_of_ble_eq_true rfl) dX0_init_43 dX0_init_45 (fun q4 H1 locs1 hP hD hS => ?_)
  refine lv_aload_n hx hb dX0_init_48 rfl (lv_at hl 0 rfl) ?_
  refine lv_iconst (v := 4) hx hb dX0_init_49 rfl ?_
  refine ec_arr hx hb hown hts hK hin hA ec_C0 9 (by decide) rfl q217 (d := .int) rfl 0 (by decide) (x := 4) (n := 4) (by decide) rfl (by decide) hP hD hS (by rw [hR.1]; exact Nat.le_of_ble_eq_true rfl) (by rw [hR.2.1]; exact Nat.le_of_ble_eq_true rfl) dX0_init_50 dX0_init_52 (fun q9 H1 locs1 hP hD hS => ?_)
  refine lv_aload_n hx hb dX0_init_55 rfl (lv_at hl 0 rfl) ?_
  refine ec_newO hx hb hown hts hK hA ec_C1 q60 q61 q46 ec_def1 hP hD hS (by rw [hR.1]; exact Nat.le_of_ble_eq_true rfl) (by rw [hR.2.1]; exact Nat.le_of_ble_eq_true rfl) dX0_init_56 (fun q10 H1 hP hD hS => ?_)
  refine lv_dup hx hb dX0_init_59 rfl ?_
  refine ec_callN (As := []) (b := q10) (n := 0) (rest := [.ref q10, .ref h]) hx hb hown hts hK hA (ec_c1 l D tc q10) (by decide) q63 q46 q64 (by decide) rfl (by rw [hR.2.2.1]; exact Nat.le_of_ble_eq_true rfl) (by rw [hR.2.2.2]; exact Nat.le_of_ble_eq_true rfl) rfl (by rw [hml]; exact hl.1) (Nat.le_of_ble_eq_true rfl) hP hD hS (by rw [hR.1]; exact Nat.le_of_ble_eq_true rfl) (by rw [hR.2.1]; exact Nat.le_of_ble_eq_true rfl) dX0_init_60 (fun ws1 H1 locs1 hk1 hP hD hS => ?_)
  obtain ⟨gw, rfl⟩ := hk1
  rw [List.cons_append] at hP hD
  refine ec_put hx hb hown hts hK hin ec_C0 10 (by decide) rfl q219 rfl rfl hP hD hS dX0_init_63 (fun H1 locs1 hP hD hS => ?_)
  refine lv_aload_n hx hb dX0_init_66 rfl (lv_at hl 0 rfl) ?_
  refine lv_sipush (v := 1000) hx hb dX0_init_67 rfl ?_
  refine ec_arr hx hb hown hts hK hin hA ec_C0 11 (by decide) rfl q220 (d := .int) rfl 0 (by decide) (x := 1000) (n := 1000) (by decide) rfl (by decide) hP hD hS (by rw [hR.1]; exact Nat.le_of_ble_eq_true rfl) (by rw [hR.2.1]; exact Nat.le_of_ble_eq_true rfl) dX0_init_70 dX0_init_72 (fun q11 H1 locs1 hP hD hS => ?_)
  refine lv_aload_n hx hb dX0_init_75 rfl (lv_at hl 0 rfl) ?_
  refine lv_sipush (v := 1000) hx hb dX0_init_76 rfl ?_
  refine ec_arr hx hb hown hts hK hin hA ec_C0 12 (by decide) rfl q222 (d := .int) rfl 0 (by decide) (x := 1000) (n := 1000) (by decide) rfl (by decide) hP hD hS (by rw [hR.1]; exact Nat.le_of_ble_eq_true rfl) (by rw [hR.2.1]; exact Nat.le_of_ble_eq_true rfl) dX0_init_79 dX0_init_81 (fun q12 H1 locs1 hP hD hS => ?_)
  refine lv_aload_n hx hb dX0_init_84 rfl (lv_at hl 0 rfl) ?_
  refine lv_sipush (v := 1000) hx hb dX0_init_85 rfl ?_
  refine ec_newA (t := .short) (k := 4) hx hb hown hts hA q93 hX.1 hX.2.2.2.1 (x := 1000) (n := 1000) (by decide) rfl (by decide) hP hD hS (by rw [hR.1]; exact Nat.le_of_ble_eq_true rfl) (by rw [hR.2.1]; exact Nat.le_of_ble_eq_true rfl) dX0_init_88 (fun q13 H1 hP hD hS => ?_)
  rw [List.cons_append] at hP hD
  refine ec_put hx hb hown hts hK hin ec_C0 13 (by decide) rfl q224 rfl rfl hP hD hS dX0_init_91 (fun H1 locs1 hP hD hS => ?_)
  refine lv_aload_n hx hb dX0_init_94 rfl (lv_at hl 0 rfl) ?_
  refine lv_sipush (v := 1000) hx hb dX0_init_95 rfl ?_
  refine ec_newA (t := .byte) (k := 5) hx hb hown hts hA q95 hX.2.1 hX.2.2.2.2 (x := 1000) (n := 1000) (by decide) rfl (by decide) hP hD hS (by rw [hR.1]; exact Nat.le_of_ble_eq_true rfl) (by rw [hR.2.1]; exact Nat.le_of_ble_eq_true rfl) dX0_init_98 (fun q14 H1 hP hD hS => ?_)
  rw [List.cons_append] at hP hD
  refine ec_put hx hb hown hts hK hin ec_C0 14 (by decide) rfl q226 rfl rfl hP hD hS dX0_init_101 (fun H1 locs1 hP hD hS => ?_)
  refine lv_aload_n hx hb dX0_init_104 rfl (lv_at hl 0 rfl) ?_
  refine lv_bipush (v := 8) hx hb dX0_init_105 rfl ?_
  refine ec_newQ hx hb hown hts hK hA q97 hX.2.2.1 (x := 8) (n := 8) (by decide) rfl (by decide) hP hD hS (by rw [hR.1]; exact Nat.le_of_ble_eq_true rfl) (by rw [hR.2.1]; exact Nat.le_of_ble_eq_true rfl) dX0_init_107 (fun q17 H1 hP hD hS => ?_)
  rw [List.cons_append] at hP hD
  refine ec_put hx hb hown hts hK hin ec_C0 17 (by decide) rfl q232 rfl rfl hP hD hS dX0_init_110 (fun H1 locs1 hP hD hS => ?_)
  refine lv_aload_n hx hb dX0_init_113 rfl (lv_at hl 0 rfl) ?_
  refine ec_newO hx hb hown hts hK hA ec_C2 q99 q100 q47 ec_def2 hP hD hS (by rw [hR.1]; exact Nat.le_of_ble_eq_true rfl) (by rw [hR.2.1]; exact Nat.le_of_ble_eq_true rfl) dX0_init_114 (fun q19 H1 hP hD hS => ?_)
  refine lv_dup hx hb dX0_init_117 rfl ?_
  refine lv_aload_n hx hb dX0_init_118 rfl (lv_at hl 0 rfl) ?_
  refine ec_callN (As := [.ref h]) (b := q19) (n := 1) (rest := [.ref q19, .ref h]) hx hb hown hts hK hA (ec_c2 l D tc q19 h) (by decide) q102 q47 q103 (by decide) rfl (by rw [hR.2.2.1]; exact Nat.le_of_ble_eq_true rfl) (by rw [hR.2.2.2]; exact Nat.le_of_ble_eq_true rfl) rfl (by rw [hml]; exact hl.1) (Nat.le_of_ble_eq_true rfl) hP hD hS (by rw [hR.1]; exact Nat.le_of_ble_eq_true rfl) (by rw [hR.2.1]; exact Nat.le_of_ble_eq_true rfl) dX0_init_119 (fun ws1 H1 locs1 hk1 hP hD hS => ?_)
  obtain ⟨gp, rfl⟩ := hk1
  rw [List.cons_append] at hP hD
  refine ec_put hx hb hown hts hK hin ec_C0 19 (by decide) rfl q234 rfl rfl hP hD hS dX0_init_122 (fun H1 locs1 hP hD hS => ?_)
  refine lv_aload_n hx hb dX0_init_125 rfl (lv_at hl 0 rfl) ?_
  refine lv_sipush (v := 1000) hx hb dX0_init_126 rfl ?_
  refine ec_arr hx hb hown hts hK hin hA ec_C0 20 (by decide) rfl q235 (d := .boolean) rfl 1 (by decide) (x := 1000) (n := 1000) (by decide) rfl (by decide) hP hD hS (by rw [hR.1]; exact Nat.le_of_ble_eq_true rfl) (by rw [hR.2.1]; exact Nat.le_of_ble_eq_true rfl) dX0_init_129 dX0_init_131 (fun q20 H1 locs1 hP hD hS => ?_)
  obtain ⟨g, hg⟩ : ∃ g : Nat → Nat, g = (fun k => if k = 0 then q0 else if k = 1 then q1 else if k = 2 then q2 else if k = 3 then q3 else if k = 4 then q4 else if k = 9 then q9 else if k = 10 then q10 else if k = 11 then q11 else if k = 12 then q12 else if k = 13 then q13 else if k = 14 then q14 else if k = 17 then q17 else if k = 19 then q19 else if k = 20 then q20 else 0) := ⟨_, rfl⟩
  have hP : va_P D eh_cl (ec_xw tc h g gw gp (fun _ => 0) (fun _ _ => 0) 0 0) H1 := by rw [hg]; exact hP
  have hD : va_D A (ec_xw tc h g gw gp (fun _ => 0) (fun _ _ => 0) 0 0) := by rw [hg]; exact hD
  clear hg
  -- the patterns
  have loop2 : ∀ (d i : Nat) (H : Heap) (locs : List Loc) (la : Array Slot) (a : Nat → Nat) (gg : Nat → Nat → Nat), i ≤ 8 → 8 - i < d → va_P D eh_cl (ec_xw tc h g gw gp a gg 16 i) H → va_D A (ec_xw tc h g gw gp a gg 16 i) → va_S A s.heap H locs → lv_has la 2 [(1, .int (eh_i i)), (0, .ref h)] → W p l e R s m ([.ref h] : List Value).toArray below meth c H locs (20 + 8 * i) (165759 + 447 * i) Q (F0 m 157 la []) := by
    intro d
    induction d with
    | zero => intro i H locs la a gg h1 h2; omega
    | succ d ih =>
      intro i H locs la a gg hi hd hP hD hS hl
      refine lv_iload_n hx hb dX0_init_157 rfl (lv_at hl 0 rfl) ?_
      refine lv_bipush (v := eh_i 8) hx hb dX0_init_158 rfl ?_
      refine lv_icmp_ge hx hb dX0_init_160 (tgt := 183) rfl (fun hge => ?_) (fun hlt => ?_)
      · have := (eh_i_le (a := 8) (b := i) (eh_rc (by omega)) (eh_rc (by omega))).mp hge
        have hi8 : i = 8 := by omega
        subst hi8
        exact hend _ _ _ _ _ _ _ (by omega) (by omega) ⟨g, gw, gp, a, gg, rfl⟩ hP hD hS dX0_init_183
      · have hn : ¬ (8 : Int) ≤ (i : Int) := fun q => hlt ((eh_i_le (a := 8) (b := i) (eh_rc (by omega)) (eh_rc (by omega))).mpr q)
        have hi8 : i < 8 := by omega
        refine lv_aload_n hx hb dX0_init_163 rfl (lv_at hl 1 rfl) ?_
        refine ec_get hx hb hown hts hK ec_C0 17 (by decide) q232 hP (v := .ref (g 17)) rfl dX0_init_164 ?_
        refine lv_iload_n hx hb dX0_init_167 rfl (lv_at hl 0 rfl) ?_
        refine ec_newO hx hb hown hts hK hA ec_C3 q97 q121 q48 ec_def3 hP hD hS (by rw [hR.1]; omega) (by rw [hR.2.1]; omega) dX0_init_168 (fun q H1 hP hD hS => ?_)
        refine lv_dup hx hb dX0_init_171 rfl ?_
        refine lv_aload_n hx hb dX0_init_172 rfl (lv_at hl 1 rfl) ?_
        refine ec_callN (As := [.ref h]) (b := q) (n := 1) (rest := [.ref q, .int (eh_i i), .ref (g 17)]) hx hb hown hts hK hA (ec_c3 l D tc q h) (by decide) q123 q48 q124 (by decide) rfl (by rw [hR.2.2.1]; exact Nat.le_of_ble_eq_true rfl) (by rw [hR.2.2.2]; exact Nat.le_of_ble_eq_true rfl) rfl (by rw [hml]; exact hl.1) (Nat.le_of_ble_eq_true rfl) hP hD hS (by rw [hR.1]; omega) (by rw [hR.2.1]; omega) dX0_init_173 (fun ws1 H1 locs1 hk1 hP hD hS => ?_)
        obtain ⟨gq, rfl⟩ := hk1
        have hidx : (ec_xw tc h g gw gp a gg 16 i ++ ec_W tc (fun _ => h) 3 q gq [4, 5, 6, 7, 8, 13, 14])[(ec_xw tc h g gw gp a gg 16 i).length]? = some (q, .inr (3, ec_f 3 (ec_G (fun _ => h) 3 gq))) := by
          rw [List.getElem?_append_right (Nat.le_refl _), Nat.sub_self]
          rfl
        have hmid : (ec_xw tc h g gw gp a gg 16 i ++ ec_W tc (fun _ => h) 3 q gq [4, 5, 6, 7, 8, 13, 14])[(ec_l1 tc h g gw 16).length]? = some (g 17, .inl (tc 6, 8, .inr (.inr (.inr (.inr (ec_r a i)))))) := by
          unfold ec_xw
          rw [List.append_assoc, List.getElem?_append_right (Nat.le_refl _), Nat.sub_self]
          rfl
        refine va_astq (r := (RX3, TX3, 17)) hx hb hK.1 hP hD hS _ 4 _ 3 hmid rfl hidx rfl (eh_i_in (z := i) (n := 8) (by omega) (by omega) (by decide)) dX0_init_176 (fun H2 locs2 hP hD hS => ?_)
        have hset : (ec_xw tc h g gw gp a gg 16 i ++ ec_W tc (fun _ => h) 3 q gq [4, 5, 6, 7, 8, 13, 14]).set (ec_l1 tc h g gw 16).length (g 17, .inl (tc 6, 8, .inr (.inr (.inr (.inr (va_up (ec_r a i) (eh_i i).toNatClampNeg (some q))))))) = ec_xw tc h g gw gp (fun j => if j = i then q else a j) (fun j => if j = i then gq else gg j) 16 (i + 1) := by
          unfold ec_xw
          rw [eh_i_cl (by omega) (by omega), Int.toNat_natCast, ec_r_up, ← ec_T_up, List.append_assoc, List.set_append_right _ _ (Nat.le_refl _), Nat.sub_self, List.cons_append, List.set_cons_zero, List.append_assoc]
        rw [hset] at hP hD
        refine lv_iinc hx hb dX0_init_177 hl (k := 0) rfl (eh_i_add i 1) (by decide) rfl (fun la1 hl1 => ?_)
        refine lv_goto hx hb dX0_init_180 (tgt := 157) rfl ?_
        have := ih (i + 1) H2 locs2 la1 _ _ (by omega) (by omega) hP hD hS hl1
        rw [show 20 + 8 * (i + 1) = 20 + 8 * i + 1 + 7 by omega, show 165759 + 447 * (i + 1) = 165759 + 447 * i + 17 + 430 by omega] at this
        exact this
  -- no parents yet
  have loop1 : ∀ (d i : Nat) (H : Heap) (locs : List Loc) (la : Array Slot), i ≤ 16 → 16 - i < d → va_P D eh_cl (ec_xw tc h g gw gp (fun _ => 0) (fun _ _ => 0) i 0) H → va_D A (ec_xw tc h g gw gp (fun _ => 0) (fun _ _ => 0) i 0) → va_S A s.heap H locs → lv_has la 2 [(1, .int (eh_i i)), (0, .ref h)] → W p l e R s m ([.ref h] : List Value).toArray below meth c H locs 20 165759 Q (F0 m 136 la []) := by
    intro d
    induction d with
    | zero => intro i H locs la h1 h2; omega
    | succ d ih =>
      intro i H locs la hi hd hP hD hS hl
      refine lv_iload_n hx hb dX0_init_136 rfl (lv_at hl 0 rfl) ?_
      refine lv_bipush (v := eh_i 16) hx hb dX0_init_137 rfl ?_
      refine lv_icmp_ge hx hb dX0_init_139 (tgt := 155) rfl (fun hge => ?_) (fun hlt => ?_)
      · have := (eh_i_le (a := 16) (b := i) (eh_rc (by omega)) (eh_rc (by omega))).mp hge
        have hi16 : i = 16 := by omega
        subst hi16
        refine lv_iconst (v := eh_i 0) hx hb dX0_init_155 rfl ?_
        refine lv_istore_n hx hb dX0_init_156 rfl hl (by decide) rfl (fun la1 hl1 => ?_)
        exact loop2 9 0 H locs la1 _ _ (by omega) (by omega) hP hD hS hl1
      · have hn : ¬ (16 : Int) ≤ (i : Int) := fun q => hlt ((eh_i_le (a := 16) (b := i) (eh_rc (by omega)) (eh_rc (by omega))).mpr q)
        have hi16 : i < 16 := by omega
        refine lv_aload_n hx hb dX0_init_142 rfl (lv_at hl 1 rfl) ?_
        refine ec_get hx hb hown hts hK ec_C0 0 (by decide) q201 hP (v := .ref (g 0)) rfl dX0_init_143 ?_
        refine lv_iload_n hx hb dX0_init_146 rfl (lv_at hl 0 rfl) ?_
        refine lv_iconst (v := -1) hx hb dX0_init_147 rfl ?_
        refine ec_ast hx hb hK i (eh_i_in (z := i) (n := 16) (by omega) (by omega) (by decide)) (by rw [eh_i_cl (by omega) (by omega), Int.toNat_natCast]) hP hD hS dX0_init_148 (fun H2 locs2 hP hD hS => ?_)
        refine lv_iinc hx hb dX0_init_149 hl (k := 0) rfl (eh_i_add i 1) (by decide) rfl (fun la1 hl1 => ?_)
        refine lv_goto hx hb dX0_init_152 (tgt := 136) rfl ?_
        exact ih (i + 1) H2 locs2 la1 (by omega) (by omega) hP hD hS hl1
  refine lv_iconst (v := eh_i 0) hx hb dX0_init_134 rfl ?_
  refine lv_istore_n hx hb dX0_init_135 rfl hl (by decide) rfl (fun la1 hl1 => ?_)
  exact loop1 17 0 H1 locs1 la1 (by omega) (by omega) hP hD hS hl1
