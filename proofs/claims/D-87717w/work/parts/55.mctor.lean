/-! the constructor of EventHunterModel: printed by gen55.py -/
def ec_mf (g : Nat → Nat) (ks : List Nat) (j : Nat) : Value := if j ∈ ks then .ref (g j) else ec_d 4 j
def ec_mw (tc : Nat → ClassId) (h : Nat) (g : Nat → Nat) (ks : List Nat) : va_W := (h, .inr (4, ec_f 4 (ec_mf g ks))) :: ks.map (ec_a tc 4 g)
def ec_ms (D : va_G) (tc : Nat → ClassId) (A : Nat → Prop) (s : State) (H : Heap) (locs : List Loc) (h : Nat) (g : Nat → Nat) (ks : List Nat) : Prop := va_P D eh_cl (ec_mw tc h g ks) H ∧ va_D A (ec_mw tc h g ks) ∧ va_S A s.heap H locs
theorem ec_mw_up {tc : Nat → ClassId} {h q k : Nat} {g : Nat → Nat} {ks : List Nat} (hnk : k ∉ ks) : (h, .inr (4, ec_f 4 (ec_u (ec_mf g ks) k (.ref q)))) :: (ks.map (ec_a tc 4 g) ++ [ec_a tc 4 (fun j => if j = k then q else g j) k]) = ec_mw tc h (fun j => if j = k then q else g j) (ks ++ [k]) := by
  unfold ec_mw
  rw [List.map_append, List.map_singleton]
  have e1 : ks.map (ec_a tc 4 g) = ks.map (ec_a tc 4 (fun j => if j = k then q else g j)) := by
    apply List.map_congr_left
    intro j hj
    have hjk : j ≠ k := fun h => hnk (by rw [← h]; exact hj)
    simp only [ec_a, if_neg hjk]
  have e2 : ec_u (ec_mf g ks) k (.ref q) = ec_mf (fun j => if j = k then q else g j) (ks ++ [k]) := by
    funext j
    unfold ec_u ec_mf
    by_cases hj : j = k
    · dsimp only; rw [if_pos hj, if_pos (by simp [hj]), if_pos hj]
    · dsimp only; rw [if_neg hj, if_neg hj]
      by_cases hm : j ∈ ks
      · rw [if_pos hm, if_pos (by simp [hm])]
      · rw [if_neg hm, if_neg (by simp [hm, hj])]
  rw [e1, e2]
theorem ec_stp {p : Program} {l : Launch} {e : Env} {R : Room} {s : State} {m : MethodId} {args : Array Value} {below : List Frame} {meth : Method} {c : Code} {D : va_G} {tc : Nat → ClassId} {A : Nat → Prop} {cc : ByteArray} {Q : State → Prop} {pc : Nat} {H : Heap} {locs : List Loc} {ls : Array Slot} {cells slots : Nat} {rest : List Value} (hx : p.tables.exec = Jvm.exec) (hb : c.code = cc) (hown : s.vm.findClass "EventHunterModel" = some m.cls) (hts : ∀ w ∈ lw_all, w.before args s = true) (hK : eh_K D tc s) (hin : meth.name = "<init>") (hA : ∀ q, s.heap.size ≤ q → A q) (k : Nat) (hk : k < 48) {ks : List Nat} (hnk : k ∉ ks) (ks' : List Nat) (hks : ks ++ [k] = ks') (hdecl : (TX4 k).1 = "EventHunterModel") {idx : Nat} (hlink : Cond.fieldLink "EventHunterModel" idx (TX4 k).1 (TX4 k).2.1 (TX4 k).2.2.1 ∈ lw_all) {d : FieldType} (htk : tyX4 k = .array d)
    (t : Nat) {aT : ArrayType} (hat : t = 0 ∧ aT = .int ∨ t = 1 ∧ aT = .boolean) {x : Int32} {n : Nat} (hx0 : ¬ x < 0) (hxn : x.toNatClampNeg = n) (hn : n ≤ 1000000) (hal : eh_al (500 + k) = (t, n)) (h501 : 500 + k ≠ 501)
    {h : Nat} {g : Nat → Nat} (hst : ec_ms D tc A s H locs h g ks) (sl : Nat) (hsl : slots + n = sl) (cl : Nat) (hcl : cells + 1 = cl) (hcells : cl ≤ R.cells) (hslots : sl ≤ R.slots) (hd1 : decode cc pc = .ok (.newarray aT, 2)) (hd2 : decode cc (pc + 2) = .ok (.putfield idx, 3))
    (kk : ∀ (g' : Nat → Nat) (H1 : Heap) (locs1 : List Loc), ec_ms D tc A s H1 locs1 h g' ks' → W p l e R s m args below meth c H1 locs1 cl sl Q (F0 m (pc + 5) ls rest)) : W p l e R s m args below meth c H locs cells slots Q (F0 m pc ls (.int x :: .ref h :: rest)) := by
  subst hsl hcl hks
  obtain ⟨hP, hD, hS⟩ := hst
  refine ec_arr hx hb hown hts hK hin hA ec_C4 k hk hdecl hlink htk t hat hx0 hxn hn hP hD hS hcells hslots hd1 hd2 (fun q H1 locs1 a1 a2 a3 => ?_)
  have e : ∀ q : Nat, (q, .inl (tc t, n, .inl (fun _ => 0))) = ec_a tc 4 (fun j => if j = k then q else g j) k := fun q => by
    unfold ec_a ec_o
    rw [show 100 * (4 + 1) + k = 500 + k by omega, hal, if_neg (by omega)]
    dsimp only
    rw [if_pos rfl]
  rw [e q, ec_mw_up hnk] at a1 a2
  exact kk _ H1 locs1 ⟨a1, a2, a3⟩
theorem ec_m0 {tc : Nat → ClassId} {h q : Nat} : (h, .inr (4, ec_f 4 (ec_u (ec_d 4) 1 (.ref q)))) :: [(q, .inl (tc 0, 16, .inl (ec_p 16)))] = ec_mw tc h (fun j => if j = 1 then q else 0) [1] := by
  have := ec_mw_up (tc := tc) (h := h) (q := q) (k := 1) (g := fun _ => 0) (ks := []) (by decide)
  rw [List.nil_append] at this
  rw [← this]
  rfl
abbrev ec_k4 : List Nat := [1, 2, 4, 5, 6, 7, 9, 10, 11, 12, 16, 17, 18, 19, 20, 21, 22, 23, 24, 25, 26, 27, 28, 29, 30, 31, 32, 33, 34, 36, 37, 38, 39, 40, 41, 43, 45, 46, 47]
theorem ec_mfin {tc : Nat → ClassId} {h : Nat} (g : Nat → Nat) : ec_mw tc h g ec_k4 = ec_W tc (fun _ => 0) 4 h g ec_k4 := by
  unfold ec_mw ec_W
  have : ec_f 4 (ec_mf g ec_k4) = ec_f 4 (ec_G (fun _ => 0) 4 g) := by
    unfold ec_f
    apply List.map_congr_left
    intro j hj
    have hj := List.mem_range.mp hj
    have hj' : j < 48 := hj
    have key : ∀ j, j < 48 → (j ∈ ec_k4 → (eh_ft 4).getD j 0 = 2) ∧ (j ∉ ec_k4 → (eh_ft 4).getD j 0 = 0 ∧ ec_d 4 j = .int 0 ∧ ec_n (100 * (4 + 1) + j) = 0) := by decide +kernel
    unfold ec_mf ec_G
    by_cases hm : j ∈ ec_k4
    · rw [if_pos hm, (key j hj').1 hm]
    · obtain ⟨a1, a2, a3⟩ := (key j hj').2 hm
      rw [if_neg hm, a1, a2, a3]
      rfl
  rw [this]
set_option maxHeartbeats 8000000 in
set_option maxRecDepth 100000 in
theorem ec_c4 (l : Launch) (D : va_G) (tc : Nat → ClassId) (h : Nat) : ec_M l D tc yX4_init cX4_init 1 1 39 139750 (fun _ => True) [.ref h] [(h, .inr (4, ec_f 4 (ec_d 4)))] (fun ws' => ∃ g : Nat → Nat, ws' = ec_W tc (fun _ => 0) 4 h g ec_k4) := by
  refine ec_mk (by decide) (Nat.le_of_ble_eq_true rfl) rfl (fun p e R s m below meth c Q A la hx hb hml hown hts hK hX hin hA hR hend hP hD hS hl => ?_)
  have hl : lv_has la 1 [(0, .ref h)] := hl
  refine lv_aload_n hx hb dX4_init_0 rfl (lv_at hl 0 rfl) ?_
  refine W.objInit hx hb hown (hts _ q505) (hts _ q58) (hts _ q59) rfl (by rw [hml]; exact hl.1) rfl dX4_init_1 (by rw [hR.2.2.1]; exact Nat.le_of_ble_eq_true rfl) (by rw [hR.2.2.2]; exact Nat.le_of_ble_eq_true rfl) ?_
  refine W.eq (g2 := F0 m 4 la []) rfl ?_
  refine lv_aload_n hx hb dX4_init_4 rfl (lv_at hl 0 rfl) ?_
  refine lv_bipush (v := 16) hx hb dX4_init_5 rfl ?_
  refine ec_new hx hb hts hK hA 0 (by decide) (x := 16) (n := 16) (by decide) rfl (by decide) hP hD hS (by rw [hR.1]; exact Nat.le_of_ble_eq_true rfl) (by rw [hR.2.1]; exact Nat.le_of_ble_eq_true rfl) dX4_init_7 (fun q1 H1 hP hD hS => ?_)
  rw [ec_p_0] at hP hD
  refine lv_dup hx hb dX4_init_9 rfl ?_
  refine lv_iconst (v := 0) hx hb dX4_init_10 rfl ?_
  refine lv_iconst (v := -1) hx hb dX4_init_11 rfl ?_
  refine ec_ast (x := (h, .inr (4, ec_f 4 (ec_d 4)))) (ws := []) hx hb hK 0 (vp_in_iff.mpr (by decide)) rfl hP hD hS dX4_init_12 (fun H1 locs1 hP hD hS => ?_)
  refine lv_dup hx hb dX4_init_13 rfl ?_
  refine lv_iconst (v := 1) hx hb dX4_init_14 rfl ?_
  refine lv_iconst (v := -1) hx hb dX4_init_15 rfl ?_
  refine ec_ast (x := (h, .inr (4, ec_f 4 (ec_d 4)))) (ws := []) hx hb hK 1 (vp_in_iff.mpr (by decide)) rfl hP hD hS dX4_init_16 (fun H1 locs1 hP hD hS => ?_)
  refine lv_dup hx hb dX4_init_17 rfl ?_
  refine lv_iconst (v := 2) hx hb dX4_init_18 rfl ?_
  refine lv_iconst (v := -1) hx hb dX4_init_19 rfl ?_
  refine ec_ast (x := (h, .inr (4, ec_f 4 (ec_d 4)))) (ws := []) hx hb hK 2 (vp_in_iff.mpr (by decide)) rfl hP hD hS dX4_init_20 (fun H1 locs1 hP hD hS => ?_)
  refine lv_dup hx hb dX4_init_21 rfl ?_
  refine lv_iconst (v := 3) hx hb dX4_init_22 rfl ?_
  refine lv_iconst (v := -1) hx hb dX4_init_23 rfl ?_
  refine ec_ast (x := (h, .inr (4, ec_f 4 (ec_d 4)))) (ws := []) hx hb hK 3 (vp_in_iff.mpr (by decide)) rfl hP hD hS dX4_init_24 (fun H1 locs1 hP hD hS => ?_)
  refine lv_dup hx hb dX4_init_25 rfl ?_
  refine lv_iconst (v := 4) hx hb dX4_init_26 rfl ?_
  refine lv_iconst (v := -1) hx hb dX4_init_27 rfl ?_
  refine ec_ast (x := (h, .inr (4, ec_f 4 (ec_d 4)))) (ws := []) hx hb hK 4 (vp_in_iff.mpr (by decide)) rfl hP hD hS dX4_init_28 (fun H1 locs1 hP hD hS => ?_)
  refine lv_dup hx hb dX4_init_29 rfl ?_
  refine lv_iconst (v := 5) hx hb dX4_init_30 rfl ?_
  refine lv_iconst (v := -1) hx hb dX4_init_31 rfl ?_
  refine ec_ast (x := (h, .inr (4, ec_f 4 (ec_d 4)))) (ws := []) hx hb hK 5 (vp_in_iff.mpr (by decide)) rfl hP hD hS dX4_init_32 (fun H1 locs1 hP hD hS => ?_)
  refine lv_dup hx hb dX4_init_33 rfl ?_
  refine lv_bipush (v := 6) hx hb dX4_init_34 rfl ?_
  refine lv_iconst (v := -1) hx hb dX4_init_36 rfl ?_
  refine ec_ast (x := (h, .inr (4, ec_f 4 (ec_d 4)))) (ws := []) hx hb hK 6 (vp_in_iff.mpr (by decide)) rfl hP hD hS dX4_init_37 (fun H1 locs1 hP hD hS => ?_)
  refine lv_dup hx hb dX4_init_38 rfl ?_
  refine lv_bipush (v := 7) hx hb dX4_init_39 rfl ?_
  refine lv_iconst (v := -1) hx hb dX4_init_41 rfl ?_
  refine ec_ast (x := (h, .inr (4, ec_f 4 (ec_d 4)))) (ws := []) hx hb hK 7 (vp_in_iff.mpr (by decide)) rfl hP hD hS dX4_init_42 (fun H1 locs1 hP hD hS => ?_)
  refine lv_dup hx hb dX4_init_43 rfl ?_
  refine lv_bipush (v := 8) hx hb dX4_init_44 rfl ?_
  refine lv_iconst (v := -1) hx hb dX4_init_46 rfl ?_
  refine ec_ast (x := (h, .inr (4, ec_f 4 (ec_d 4)))) (ws := []) hx hb hK 8 (vp_in_iff.mpr (by decide)) rfl hP hD hS dX4_init_47 (fun H1 locs1 hP hD hS => ?_)
  refine lv_dup hx hb dX4_init_48 rfl ?_
  refine lv_bipush (v := 9) hx hb dX4_init_49 rfl ?_
  refine lv_iconst (v := -1) hx hb dX4_init_51 rfl ?_
  refine ec_ast (x := (h, .inr (4, ec_f 4 (ec_d 4)))) (ws := []) hx hb hK 9 (vp_in_iff.mpr (by decide)) rfl hP hD hS dX4_init_52 (fun H1 locs1 hP hD hS => ?_)
  refine lv_dup hx hb dX4_init_53 rfl ?_
  refine lv_bipush (v := 10) hx hb dX4_init_54 rfl ?_
  refine lv_iconst (v := -1) hx hb dX4_init_56 rfl ?_
  refine ec_ast (x := (h, .inr (4, ec_f 4 (ec_d 4)))) (ws := []) hx hb hK 10 (vp_in_iff.mpr (by decide)) rfl hP hD hS dX4_init_57 (fun H1 locs1 hP hD hS => ?_)
  refine lv_dup hx hb dX4_init_58 rfl ?_
  refine lv_bipush (v := 11) hx hb dX4_init_59 rfl ?_
  refine lv_iconst (v := -1) hx hb dX4_init_61 rfl ?_
  refine ec_ast (x := (h, .inr (4, ec_f 4 (ec_d 4)))) (ws := []) hx hb hK 11 (vp_in_iff.mpr (by decide)) rfl hP hD hS dX4_init_62 (fun H1 locs1 hP hD hS => ?_)
  refine lv_dup hx hb dX4_init_63 rfl ?_
  refine lv_bipush (v := 12) hx hb dX4_init_64 rfl ?_
  refine lv_iconst (v := -1) hx hb dX4_init_66 rfl ?_
  refine ec_ast (x := (h, .inr (4, ec_f 4 (ec_d 4)))) (ws := []) hx hb hK 12 (vp_in_iff.mpr (by decide)) rfl hP hD hS dX4_init_67 (fun H1 locs1 hP hD hS => ?_)
  refine lv_dup hx hb dX4_init_68 rfl ?_
  refine lv_bipush (v := 13) hx hb dX4_init_69 rfl ?_
  refine lv_iconst (v := -1) hx hb dX4_init_71 rfl ?_
  refine ec_ast (x := (h, .inr (4, ec_f 4 (ec_d 4)))) (ws := []) hx hb hK 13 (vp_in_iff.mpr (by decide)) rfl hP hD hS dX4_init_72 (fun H1 locs1 hP hD hS => ?_)
  refine lv_dup hx hb dX4_init_73 rfl ?_
  refine lv_bipush (v := 14) hx hb dX4_init_74 rfl ?_
  refine lv_iconst (v := -1) hx hb dX4_init_76 rfl ?_
  refine ec_ast (x := (h, .inr (4, ec_f 4 (ec_d 4)))) (ws := []) hx hb hK 14 (vp_in_iff.mpr (by decide)) rfl hP hD hS dX4_init_77 (fun H1 locs1 hP hD hS => ?_)
  refine lv_dup hx hb dX4_init_78 rfl ?_
  refine lv_bipush (v := 15) hx hb dX4_init_79 rfl ?_
  refine lv_iconst (v := -1) hx hb dX4_init_81 rfl ?_
  refine ec_ast (x := (h, .inr (4, ec_f 4 (ec_d 4)))) (ws := []) hx hb hK 15 (vp_in_iff.mpr (by decide)) rfl hP hD hS dX4_init_82 (fun H1 locs1 hP hD hS => ?_)
  refine ec_put hx hb hown hts hK hin ec_C4 1 (by decide) rfl q507 rfl rfl hP hD hS dX4_init_83 (fun H1 locs1 hP hD hS => ?_)
  rw [ec_m0] at hP hD
  have hst := (⟨hP, hD, hS⟩ : ec_ms D tc A s H1 locs1 h _ [1])
  clear hP hD hS
  refine lv_aload_n hx hb dX4_init_86 rfl (lv_at hl 0 rfl) ?_
  refine lv_iconst (v := 4) hx hb dX4_init_87 rfl ?_
  refine ec_stp hx hb hown hts hK hin hA 2 (by decide) (by decide) [1, 2] rfl rfl q508 (d := .int) rfl 0 (by decide) (x := 4) (n := 4) (by decide) rfl (by decide) rfl (by decide) hst 20 rfl 2 rfl (by rw [hR.1]; decide) (by rw [hR.2.1]; decide) dX4_init_88 dX4_init_90 (fun g H1 locs1 hst => ?_)
  refine lv_aload_n hx hb dX4_init_93 rfl (lv_at hl 0 rfl) ?_
  refine lv_bipush (v := 101) hx hb dX4_init_94 rfl ?_
  refine ec_stp hx hb hown hts hK hin hA 4 (by decide) (by decide) [1, 2, 4] rfl rfl q510 (d := .int) rfl 0 (by decide) (x := 101) (n := 101) (by decide) rfl (by decide) rfl (by decide) hst 121 rfl 3 rfl (by rw [hR.1]; decide) (by rw [hR.2.1]; decide) dX4_init_96 dX4_init_98 (fun g H1 locs1 hst => ?_)
  refine lv_aload_n hx hb dX4_init_101 rfl (lv_at hl 0 rfl) ?_
  refine lv_bipush (v := 101) hx hb dX4_init_102 rfl ?_
  refine ec_stp hx hb hown hts hK hin hA 5 (by decide) (by decide) [1, 2, 4, 5] rfl rfl q511 (d := .int) rfl 0 (by decide) (x := 101) (n := 101) (by decide) rfl (by decide) rfl (by decide) hst 222 rfl 4 rfl (by rw [hR.1]; decide) (by rw [hR.2.1]; decide) dX4_init_104 dX4_init_106 (fun g H1 locs1 hst => ?_)
  refine lv_aload_n hx hb dX4_init_109 rfl (lv_at hl 0 rfl) ?_
  refine lv_bipush (v := 101) hx hb dX4_init_110 rfl ?_
  refine ec_stp hx hb hown hts hK hin hA 6 (by decide) (by decide) [1, 2, 4, 5, 6] rfl rfl q512 (d := .int) rfl 0 (by decide) (x := 101) (n := 101) (by decide) rfl (by decide) rfl (by decide) hst 323 rfl 5 rfl (by rw [hR.1]; decide) (by rw [hR.2.1]; decide) dX4_init_112 dX4_init_114 (fun g H1 locs1 hst => ?_)
  refine lv_aload_n hx hb dX4_init_117 rfl (lv_at hl 0 rfl) ?_
  refine lv_sipush (v := 404) hx hb dX4_init_118 rfl ?_
  refine ec_stp hx hb hown hts hK hin hA 7 (by decide) (by decide) [1, 2, 4, 5, 6, 7] rfl rfl q513 (d := .int) rfl 0 (by decide) (x := 404) (n := 404) (by decide) rfl (by decide) rfl (by decide) hst 727 rfl 6 rfl (by rw [hR.1]; decide) (by rw [hR.2.1]; decide) dX4_init_121 dX4_init_123 (fun g H1 locs1 hst => ?_)
  refine lv_aload_n hx hb dX4_init_126 rfl (lv_at hl 0 rfl) ?_
  refine lv_sipush (v := 1000) hx hb dX4_init_127 rfl ?_
  refine ec_stp hx hb hown hts hK hin hA 9 (by decide) (by decide) [1, 2, 4, 5, 6, 7, 9] rfl rfl q515 (d := .int) rfl 0 (by decide) (x := 1000) (n := 1000) (by decide) rfl (by decide) rfl (by decide) hst 1727 rfl 7 rfl (by rw [hR.1]; decide) (by rw [hR.2.1]; decide) dX4_init_130 dX4_init_132 (fun g H1 locs1 hst => ?_)
  refine lv_aload_n hx hb dX4_init_135 rfl (lv_at hl 0 rfl) ?_
  refine lv_sipush (v := 1000) hx hb dX4_init_136 rfl ?_
  refine ec_stp hx hb hown hts hK hin hA 10 (by decide) (by decide) [1, 2, 4, 5, 6, 7, 9, 10] rfl rfl q516 (d := .int) rfl 0 (by decide) (x := 1000) (n := 1000) (by decide) rfl (by decide) rfl (by decide) hst 2727 rfl 8 rfl (by rw [hR.1]; decide) (by rw [hR.2.1]; decide) dX4_init_139 dX4_init_141 (fun g H1 locs1 hst => ?_)
  refine lv_aload_n hx hb dX4_init_144 rfl (lv_at hl 0 rfl) ?_
  refine lv_sipush (v := 1000) hx hb dX4_init_145 rfl ?_
  refine ec_stp hx hb hown hts hK hin hA 11 (by decide) (by decide) [1, 2, 4, 5, 6, 7, 9, 10, 11] rfl rfl q517 (d := .int) rfl 0 (by decide) (x := 1000) (n := 1000) (by decide) rfl (by decide) rfl (by decide) hst 3727 rfl 9 rfl (by rw [hR.1]; decide) (by rw [hR.2.1]; decide) dX4_init_148 dX4_init_150 (fun g H1 locs1 hst => ?_)
  refine lv_aload_n hx hb dX4_init_153 rfl (lv_at hl 0 rfl) ?_
  refine lv_sipush (v := 4000) hx hb dX4_init_154 rfl ?_
  refine ec_stp hx hb hown hts hK hin hA 12 (by decide) (by decide) [1, 2, 4, 5, 6, 7, 9, 10, 11, 12] rfl rfl q518 (d := .int) rfl 0 (by decide) (x := 4000) (n := 4000) (by decide) rfl (by decide) rfl (by decide) hst 7727 rfl 10 rfl (by rw [hR.1]; decide) (by rw [hR.2.1]; decide) dX4_init_157 dX4_init_159 (fun g H1 locs1 hst => ?_)
  refine lv_aload_n hx hb dX4_init_162 rfl (lv_at hl 0 rfl) ?_
  refine lv_bipush (v := 8) hx hb dX4_init_163 rfl ?_
  refine ec_stp hx hb hown hts hK hin hA 16 (by decide) (by decide) [1, 2, 4, 5, 6, 7, 9, 10, 11, 12, 16] rfl rfl q522 (d := .int) rfl 0 (by decide) (x := 8) (n := 8) (by decide) rfl (by decide) rfl (by decide) hst 7735 rfl 11 rfl (by rw [hR.1]; decide) (by rw [hR.2.1]; decide) dX4_init_165 dX4_init_167 (fun g H1 locs1 hst => ?_)
  refine lv_aload_n hx hb dX4_init_170 rfl (lv_at hl 0 rfl) ?_
  refine lv_bipush (v := 8) hx hb dX4_init_171 rfl ?_
  refine ec_stp hx hb hown hts hK hin hA 17 (by decide) (by decide) [1, 2, 4, 5, 6, 7, 9, 10, 11, 12, 16, 17] rfl rfl q523 (d := .int) rfl 0 (by decide) (x := 8) (n := 8) (by decide) rfl (by decide) rfl (by decide) hst 7743 rfl 12 rfl (by rw [hR.1]; decide) (by rw [hR.2.1]; decide) dX4_init_173 dX4_init_175 (fun g H1 locs1 hst => ?_)
  refine lv_aload_n hx hb dX4_init_178 rfl (lv_at hl 0 rfl) ?_
  refine lv_bipush (v := 8) hx hb dX4_init_179 rfl ?_
  refine ec_stp hx hb hown hts hK hin hA 18 (by decide) (by decide) [1, 2, 4, 5, 6, 7, 9, 10, 11, 12, 16, 17, 18] rfl rfl q524 (d := .int) rfl 0 (by decide) (x := 8) (n := 8) (by decide) rfl (by decide) rfl (by decide) hst 7751 rfl 13 rfl (by rw [hR.1]; decide) (by rw [hR.2.1]; decide) dX4_init_181 dX4_init_183 (fun g H1 locs1 hst => ?_)
  refine lv_aload_n hx hb dX4_init_186 rfl (lv_at hl 0 rfl) ?_
  refine lv_bipush (v := 8) hx hb dX4_init_187 rfl ?_
  refine ec_stp hx hb hown hts hK hin hA 19 (by decide) (by decide) [1, 2, 4, 5, 6, 7, 9, 10, 11, 12, 16, 17, 18, 19] rfl rfl q525 (d := .int) rfl 0 (by decide) (x := 8) (n := 8) (by decide) rfl (by decide) rfl (by decide) hst 7759 rfl 14 rfl (by rw [hR.1]; decide) (by rw [hR.2.1]; decide) dX4_init_189 dX4_init_191 (fun g H1 locs1 hst => ?_)
  refine lv_aload_n hx hb dX4_init_194 rfl (lv_at hl 0 rfl) ?_
  refine lv_bipush (v := 8) hx hb dX4_init_195 rfl ?_
  refine ec_stp hx hb hown hts hK hin hA 20 (by decide) (by decide) [1, 2, 4, 5, 6, 7, 9, 10, 11, 12, 16, 17, 18, 19, 20] rfl rfl q526 (d := .int) rfl 0 (by decide) (x := 8) (n := 8) (by decide) rfl (by decide) rfl (by decide) hst 7767 rfl 15 rfl (by rw [hR.1]; decide) (by rw [hR.2.1]; decide) dX4_init_197 dX4_init_199 (fun g H1 locs1 hst => ?_)
  refine lv_aload_n hx hb dX4_init_202 rfl (lv_at hl 0 rfl) ?_
  refine lv_bipush (v := 8) hx hb dX4_init_203 rfl ?_
  refine ec_stp hx hb hown hts hK hin hA 21 (by decide) (by decide) [1, 2, 4, 5, 6, 7, 9, 10, 11, 12, 16, 17, 18, 19, 20, 21] rfl rfl q527 (d := .boolean) rfl 1 (by decide) (x := 8) (n := 8) (by decide) rfl (by decide) rfl (by decide) hst 7775 rfl 16 rfl (by rw [hR.1]; decide) (by rw [hR.2.1]; decide) dX4_init_205 dX4_init_207 (fun g H1 locs1 hst => ?_)
  refine lv_aload_n hx hb dX4_init_210 rfl (lv_at hl 0 rfl) ?_
  refine lv_bipush (v := 8) hx hb dX4_init_211 rfl ?_
  refine ec_stp hx hb hown hts hK hin hA 22 (by decide) (by decide) [1, 2, 4, 5, 6, 7, 9, 10, 11, 12, 16, 17, 18, 19, 20, 21, 22] rfl rfl q528 (d := .boolean) rfl 1 (by decide) (x := 8) (n := 8) (by decide) rfl (by decide) rfl (by decide) hst 7783 rfl 17 rfl (by rw [hR.1]; decide) (by rw [hR.2.1]; decide) dX4_init_213 dX4_init_215 (fun g H1 locs1 hst => ?_)
  refine lv_aload_n hx hb dX4_init_218 rfl (lv_at hl 0 rfl) ?_
  refine lv_bipush (v := 8) hx hb dX4_init_219 rfl ?_
  refine ec_stp hx hb hown hts hK hin hA 23 (by decide) (by decide) [1, 2, 4, 5, 6, 7, 9, 10, 11, 12, 16, 17, 18, 19, 20, 21, 22, 23] rfl rfl q529 (d := .int) rfl 0 (by decide) (x := 8) (n := 8) (by decide) rfl (by decide) rfl (by decide) hst 7791 rfl 18 rfl (by rw [hR.1]; decide) (by rw [hR.2.1]; decide) dX4_init_221 dX4_init_223 (fun g H1 locs1 hst => ?_)
  refine lv_aload_n hx hb dX4_init_226 rfl (lv_at hl 0 rfl) ?_
  refine lv_bipush (v := 48) hx hb dX4_init_227 rfl ?_
  refine ec_stp hx hb hown hts hK hin hA 24 (by decide) (by decide) [1, 2, 4, 5, 6, 7, 9, 10, 11, 12, 16, 17, 18, 19, 20, 21, 22, 23, 24] rfl rfl q530 (d := .int) rfl 0 (by decide) (x := 48) (n := 48) (by decide) rfl (by decide) rfl (by decide) hst 7839 rfl 19 rfl (by rw [hR.1]; decide) (by rw [hR.2.1]; decide) dX4_init_229 dX4_init_231 (fun g H1 locs1 hst => ?_)
  refine lv_aload_n hx hb dX4_init_234 rfl (lv_at hl 0 rfl) ?_
  refine lv_bipush (v := 48) hx hb dX4_init_235 rfl ?_
  refine ec_stp hx hb hown hts hK hin hA 25 (by decide) (by decide) [1, 2, 4, 5, 6, 7, 9, 10, 11, 12, 16, 17, 18, 19, 20, 21, 22, 23, 24, 25] rfl rfl q531 (d := .int) rfl 0 (by decide) (x := 48) (n := 48) (by decide) rfl (by decide) rfl (by decide) hst 7887 rfl 20 rfl (by rw [hR.1]; decide) (by rw [hR.2.1]; decide) dX4_init_237 dX4_init_239 (fun g H1 locs1 hst => ?_)
  refine lv_aload_n hx hb dX4_init_242 rfl (lv_at hl 0 rfl) ?_
  refine lv_bipush (v := 48) hx hb dX4_init_243 rfl ?_
  refine ec_stp hx hb hown hts hK hin hA 26 (by decide) (by decide) [1, 2, 4, 5, 6, 7, 9, 10, 11, 12, 16, 17, 18, 19, 20, 21, 22, 23, 24, 25, 26] rfl rfl q532 (d := .int) rfl 0 (by decide) (x := 48) (n := 48) (by decide) rfl (by decide) rfl (by decide) hst 7935 rfl 21 rfl (by rw [hR.1]; decide) (by rw [hR.2.1]; decide) dX4_init_245 dX4_init_247 (fun g H1 locs1 hst => ?_)
  refine lv_aload_n hx hb dX4_init_250 rfl (lv_at hl 0 rfl) ?_
  refine lv_bipush (v := 48) hx hb dX4_init_251 rfl ?_
  refine ec_stp hx hb hown hts hK hin hA 27 (by decide) (by decide) [1, 2, 4, 5, 6, 7, 9, 10, 11, 12, 16, 17, 18, 19, 20, 21, 22, 23, 24, 25, 26, 27] rfl rfl q533 (d := .int) rfl 0 (by decide) (x := 48) (n := 48) (by decide) rfl (by decide) rfl (by decide) hst 7983 rfl 22 rfl (by rw [hR.1]; decide) (by rw [hR.2.1]; decide) dX4_init_253 dX4_init_255 (fun g H1 locs1 hst => ?_)
  refine lv_aload_n hx hb dX4_init_258 rfl (lv_at hl 0 rfl) ?_
  refine lv_bipush (v := 48) hx hb dX4_init_259 rfl ?_
  refine ec_stp hx hb hown hts hK hin hA 28 (by decide) (by decide) [1, 2, 4, 5, 6, 7, 9, 10, 11, 12, 16, 17, 18, 19, 20, 21, 22, 23, 24, 25, 26, 27, 28] rfl rfl q534 (d := .int) rfl 0 (by decide) (x := 48) (n := 48) (by decide) rfl (by decide) rfl (by decide) hst 8031 rfl 23 rfl (by rw [hR.1]; decide) (by rw [hR.2.1]; decide) dX4_init_261 dX4_init_263 (fun g H1 locs1 hst => ?_)
  refine lv_aload_n hx hb dX4_init_266 rfl (lv_at hl 0 rfl) ?_
  refine lv_bipush (v := 8) hx hb dX4_init_267 rfl ?_
  refine ec_stp hx hb hown hts hK hin hA 29 (by decide) (by decide) [1, 2, 4, 5, 6, 7, 9, 10, 11, 12, 16, 17, 18, 19, 20, 21, 22, 23, 24, 25, 26, 27, 28, 29] rfl rfl q535 (d := .int) rfl 0 (by decide) (x := 8) (n := 8) (by decide) rfl (by decide) rfl (by decide) hst 8039 rfl 24 rfl (by rw [hR.1]; decide) (by rw [hR.2.1]; decide) dX4_init_269 dX4_init_271 (fun g H1 locs1 hst => ?_)
  refine lv_aload_n hx hb dX4_init_274 rfl (lv_at hl 0 rfl) ?_
  refine lv_sipush (v := 1608) hx hb dX4_init_275 rfl ?_
  refine ec_stp hx hb hown hts hK hin hA 30 (by decide) (by decide) [1, 2, 4, 5, 6, 7, 9, 10, 11, 12, 16, 17, 18, 19, 20, 21, 22, 23, 24, 25, 26, 27, 28, 29, 30] rfl rfl q536 (d := .int) rfl 0 (by decide) (x := 1608) (n := 1608) (by decide) rfl (by decide) rfl (by decide) hst 9647 rfl 25 rfl (by rw [hR.1]; decide) (by rw [hR.2.1]; decide) dX4_init_278 dX4_init_280 (fun g H1 locs1 hst => ?_)
  refine lv_aload_n hx hb dX4_init_283 rfl (lv_at hl 0 rfl) ?_
  refine lv_sipush (v := 1608) hx hb dX4_init_284 rfl ?_
  refine ec_stp hx hb hown hts hK hin hA 31 (by decide) (by decide) [1, 2, 4, 5, 6, 7, 9, 10, 11, 12, 16, 17, 18, 19, 20, 21, 22, 23, 24, 25, 26, 27, 28, 29, 30, 31] rfl rfl q537 (d := .boolean) rfl 1 (by decide) (x := 1608) (n := 1608) (by decide) rfl (by decide) rfl (by decide) hst 11255 rfl 26 rfl (by rw [hR.1]; decide) (by rw [hR.2.1]; decide) dX4_init_287 dX4_init_289 (fun g H1 locs1 hst => ?_)
  refine lv_aload_n hx hb dX4_init_292 rfl (lv_at hl 0 rfl) ?_
  refine lv_ldc hx hb hown (hts _ q506) dX4_init_293 ?_
  refine ec_stp hx hb hown hts hK hin hA 32 (by decide) (by decide) [1, 2, 4, 5, 6, 7, 9, 10, 11, 12, 16, 17, 18, 19, 20, 21, 22, 23, 24, 25, 26, 27, 28, 29, 30, 31, 32] rfl rfl q538 (d := .int) rfl 0 (by decide) (x := 38592) (n := 38592) (by decide) rfl (by decide) rfl (by decide) hst 49847 rfl 27 rfl (by rw [hR.1]; decide) (by rw [hR.2.1]; decide) dX4_init_295 dX4_init_297 (fun g H1 locs1 hst => ?_)
  refine lv_aload_n hx hb dX4_init_300 rfl (lv_at hl 0 rfl) ?_
  refine lv_ldc hx hb hown (hts _ q506) dX4_init_301 ?_
  refine ec_stp hx hb hown hts hK hin hA 33 (by decide) (by decide) [1, 2, 4, 5, 6, 7, 9, 10, 11, 12, 16, 17, 18, 19, 20, 21, 22, 23, 24, 25, 26, 27, 28, 29, 30, 31, 32, 33] rfl rfl q539 (d := .int) rfl 0 (by decide) (x := 38592) (n := 38592) (by decide) rfl (by decide) rfl (by decide) hst 88439 rfl 28 rfl (by rw [hR.1]; decide) (by rw [hR.2.1]; decide) dX4_init_303 dX4_init_305 (fun g H1 locs1 hst => ?_)
  refine lv_aload_n hx hb dX4_init_308 rfl (lv_at hl 0 rfl) ?_
  refine lv_sipush (v := 201) hx hb dX4_init_309 rfl ?_
  refine ec_stp hx hb hown hts hK hin hA 34 (by decide) (by decide) [1, 2, 4, 5, 6, 7, 9, 10, 11, 12, 16, 17, 18, 19, 20, 21, 22, 23, 24, 25, 26, 27, 28, 29, 30, 31, 32, 33, 34] rfl rfl q540 (d := .boolean) rfl 1 (by decide) (x := 201) (n := 201) (by decide) rfl (by decide) rfl (by decide) hst 88640 rfl 29 rfl (by rw [hR.1]; decide) (by rw [hR.2.1]; decide) dX4_init_312 dX4_init_314 (fun g H1 locs1 hst => ?_)
  refine lv_aload_n hx hb dX4_init_317 rfl (lv_at hl 0 rfl) ?_
  refine lv_sipush (v := 1000) hx hb dX4_init_318 rfl ?_
  refine ec_stp hx hb hown hts hK hin hA 36 (by decide) (by decide) [1, 2, 4, 5, 6, 7, 9, 10, 11, 12, 16, 17, 18, 19, 20, 21, 22, 23, 24, 25, 26, 27, 28, 29, 30, 31, 32, 33, 34, 36] rfl rfl q542 (d := .int) rfl 0 (by decide) (x := 1000) (n := 1000) (by decide) rfl (by decide) rfl (by decide) hst 89640 rfl 30 rfl (by rw [hR.1]; decide) (by rw [hR.2.1]; decide) dX4_init_321 dX4_init_323 (fun g H1 locs1 hst => ?_)
  refine lv_aload_n hx hb dX4_init_326 rfl (lv_at hl 0 rfl) ?_
  refine lv_sipush (v := 1000) hx hb dX4_init_327 rfl ?_
  refine ec_stp hx hb hown hts hK hin hA 37 (by decide) (by decide) [1, 2, 4, 5, 6, 7, 9, 10, 11, 12, 16, 17, 18, 19, 20, 21, 22, 23, 24, 25, 26, 27, 28, 29, 30, 31, 32, 33, 34, 36, 37] rfl rfl q543 (d := .int) rfl 0 (by decide) (x := 1000) (n := 1000) (by decide) rfl (by decide) rfl (by decide) hst 90640 rfl 31 rfl (by rw [hR.1]; decide) (by rw [hR.2.1]; decide) dX4_init_330 dX4_init_332 (fun g H1 locs1 hst => ?_)
  refine lv_aload_n hx hb dX4_init_335 rfl (lv_at hl 0 rfl) ?_
  refine lv_sipush (v := 24000) hx hb dX4_init_336 rfl ?_
  refine ec_stp hx hb hown hts hK hin hA 38 (by decide) (by decide) [1, 2, 4, 5, 6, 7, 9, 10, 11, 12, 16, 17, 18, 19, 20, 21, 22, 23, 24, 25, 26, 27, 28, 29, 30, 31, 32, 33, 34, 36, 37, 38] rfl rfl q544 (d := .int) rfl 0 (by decide) (x := 24000) (n := 24000) (by decide) rfl (by decide) rfl (by decide) hst 114640 rfl 32 rfl (by rw [hR.1]; decide) (by rw [hR.2.1]; decide) dX4_init_339 dX4_init_341 (fun g H1 locs1 hst => ?_)
  refine lv_aload_n hx hb dX4_init_344 rfl (lv_at hl 0 rfl) ?_
  refine lv_sipush (v := 24000) hx hb dX4_init_345 rfl ?_
  refine ec_stp hx hb hown hts hK hin hA 39 (by decide) (by decide) [1, 2, 4, 5, 6, 7, 9, 10, 11, 12, 16, 17, 18, 19, 20, 21, 22, 23, 24, 25, 26, 27, 28, 29, 30, 31, 32, 33, 34, 36, 37, 38, 39] rfl rfl q545 (d := .int) rfl 0 (by decide) (x := 24000) (n := 24000) (by decide) rfl (by decide) rfl (by decide) hst 138640 rfl 33 rfl (by rw [hR.1]; decide) (by rw [hR.2.1]; decide) dX4_init_348 dX4_init_350 (fun g H1 locs1 hst => ?_)
  refine lv_aload_n hx hb dX4_init_353 rfl (lv_at hl 0 rfl) ?_
  refine lv_bipush (v := 25) hx hb dX4_init_354 rfl ?_
  refine ec_stp hx hb hown hts hK hin hA 40 (by decide) (by decide) [1, 2, 4, 5, 6, 7, 9, 10, 11, 12, 16, 17, 18, 19, 20, 21, 22, 23, 24, 25, 26, 27, 28, 29, 30, 31, 32, 33, 34, 36, 37, 38, 39, 40] rfl rfl q546 (d := .int) rfl 0 (by decide) (x := 25) (n := 25) (by decide) rfl (by decide) rfl (by decide) hst 138665 rfl 34 rfl (by rw [hR.1]; decide) (by rw [hR.2.1]; decide) dX4_init_356 dX4_init_358 (fun g H1 locs1 hst => ?_)
  refine lv_aload_n hx hb dX4_init_361 rfl (lv_at hl 0 rfl) ?_
  refine lv_bipush (v := 25) hx hb dX4_init_362 rfl ?_
  refine ec_stp hx hb hown hts hK hin hA 41 (by decide) (by decide) [1, 2, 4, 5, 6, 7, 9, 10, 11, 12, 16, 17, 18, 19, 20, 21, 22, 23, 24, 25, 26, 27, 28, 29, 30, 31, 32, 33, 34, 36, 37, 38, 39, 40, 41] rfl rfl q547 (d := .int) rfl 0 (by decide) (x := 25) (n := 25) (by decide) rfl (by decide) rfl (by decide) hst 138690 rfl 35 rfl (by rw [hR.1]; decide) (by rw [hR.2.1]; decide) dX4_init_364 dX4_init_366 (fun g H1 locs1 hst => ?_)
  refine lv_aload_n hx hb dX4_init_369 rfl (lv_at hl 0 rfl) ?_
  refine lv_bipush (v := 8) hx hb dX4_init_370 rfl ?_
  refine ec_stp hx hb hown hts hK hin hA 43 (by decide) (by decide) [1, 2, 4, 5, 6, 7, 9, 10, 11, 12, 16, 17, 18, 19, 20, 21, 22, 23, 24, 25, 26, 27, 28, 29, 30, 31, 32, 33, 34, 36, 37, 38, 39, 40, 41, 43] rfl rfl q549 (d := .int) rfl 0 (by decide) (x := 8) (n := 8) (by decide) rfl (by decide) rfl (by decide) hst 138698 rfl 36 rfl (by rw [hR.1]; decide) (by rw [hR.2.1]; decide) dX4_init_372 dX4_init_374 (fun g H1 locs1 hst => ?_)
  refine lv_aload_n hx hb dX4_init_377 rfl (lv_at hl 0 rfl) ?_
  refine lv_sipush (v := 1000) hx hb dX4_init_378 rfl ?_
  refine ec_stp hx hb hown hts hK hin hA 45 (by decide) (by decide) [1, 2, 4, 5, 6, 7, 9, 10, 11, 12, 16, 17, 18, 19, 20, 21, 22, 23, 24, 25, 26, 27, 28, 29, 30, 31, 32, 33, 34, 36, 37, 38, 39, 40, 41, 43, 45] rfl rfl q551 (d := .boolean) rfl 1 (by decide) (x := 1000) (n := 1000) (by decide) rfl (by decide) rfl (by decide) hst 139698 rfl 37 rfl (by rw [hR.1]; decide) (by rw [hR.2.1]; decide) dX4_init_381 dX4_init_383 (fun g H1 locs1 hst => ?_)
  refine lv_aload_n hx hb dX4_init_386 rfl (lv_at hl 0 rfl) ?_
  refine lv_bipush (v := 26) hx hb dX4_init_387 rfl ?_
  refine ec_stp hx hb hown hts hK hin hA 46 (by decide) (by decide) [1, 2, 4, 5, 6, 7, 9, 10, 11, 12, 16, 17, 18, 19, 20, 21, 22, 23, 24, 25, 26, 27, 28, 29, 30, 31, 32, 33, 34, 36, 37, 38, 39, 40, 41, 43, 45, 46] rfl rfl q552 (d := .int) rfl 0 (by decide) (x := 26) (n := 26) (by decide) rfl (by decide) rfl (by decide) hst 139724 rfl 38 rfl (by rw [hR.1]; decide) (by rw [hR.2.1]; decide) dX4_init_389 dX4_init_391 (fun g H1 locs1 hst => ?_)
  refine lv_aload_n hx hb dX4_init_394 rfl (lv_at hl 0 rfl) ?_
  refine lv_bipush (v := 26) hx hb dX4_init_395 rfl ?_
  refine ec_stp hx hb hown hts hK hin hA 47 (by decide) (by decide) [1, 2, 4, 5, 6, 7, 9, 10, 11, 12, 16, 17, 18, 19, 20, 21, 22, 23, 24, 25, 26, 27, 28, 29, 30, 31, 32, 33, 34, 36, 37, 38, 39, 40, 41, 43, 45, 46, 47] rfl rfl q553 (d := .int) rfl 0 (by decide) (x := 26) (n := 26) (by decide) rfl (by decide) rfl (by decide) hst 139750 rfl 39 rfl (by rw [hR.1]; decide) (by rw [hR.2.1]; decide) dX4_init_397 dX4_init_399 (fun g H1 locs1 hst => ?_)
  refine hend _ _ _ _ _ _ _ (by decide) (by decide) ⟨g, ?_⟩ hst.1 hst.2.1 hst.2.2 dX4_init_402
  exact ec_mfin g
