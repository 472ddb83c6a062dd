/-! constructors of Web, Plain, Pattern: printed by gen54.py -/
def ec_d (c k : Nat) : Value := if (eh_ft c).getD k 0 < 2 then .int 0 else .null
def ec_p (j : Nat) : Nat → Int32 := fun a => if a < j then -1 else 0
theorem ec_p_up {j : Nat} : upd (ec_p j) j (-1) = ec_p (j + 1) := by
  funext a
  unfold upd ec_p
  by_cases h : a = j
  · rw [if_pos h, if_pos (by omega)]
  · rw [if_neg h]
    by_cases h2 : a < j
    · rw [if_pos h2, if_pos (by omega)]
    · rw [if_neg h2, if_neg (by omega)]
theorem ec_p_0 : (fun _ => 0 : Nat → Int32) = ec_p 0 := by
  funext a
  unfold ec_p
  rw [if_neg (by omega)]
def ec_o (id : Nat) : Nat → Int32 := if id = 100 ∨ id = 501 then ec_p 16 else fun _ => 0
def ec_n (id : Nat) : Int := if id = 204 ∨ id = 302 then -1 else 0
def ec_G (o : Nat → Nat) (c : Nat) (g : Nat → Nat) (k : Nat) : Value := match (eh_ft c).getD k 0 with
  | 0 => .int (eh_i (ec_n (100 * (c + 1) + k)))
  | 1 => .int (eh_i (ec_n (100 * (c + 1) + k)))
  | 2 => .ref (g k)
  | 3 => .null
  | n + 4 => .ref (o n)
def ec_a (tc : Nat → ClassId) (c : Nat) (g : Nat → Nat) (k : Nat) : Nat × va_E := (g k, .inl (tc (eh_al (100 * (c + 1) + k)).1, (eh_al (100 * (c + 1) + k)).2, .inl (ec_o (100 * (c + 1) + k))))
def ec_W (tc : Nat → ClassId) (o : Nat → Nat) (c h : Nat) (g : Nat → Nat) (ks : List Nat) : va_W := (h, .inr (c, ec_f c (ec_G o c g))) :: ks.map (ec_a tc c g)
theorem ec_ast {p : Program} {l : Launch} {e : Env} {R : Room} {s : State} {m : MethodId} {args : Array Value} {below : List Frame} {meth : Method} {c : Code} {D : va_G} {tc : Nat → ClassId} {A : Nat → Prop} {cc : ByteArray} {Q : State → Prop} {pc : Nat} {H : Heap} {locs : List Loc} {ls : Array Slot} {cells slots : Nat} {rest : List Value} {x : Nat × va_E} {ws : va_W} {q : Nat} (hx : p.tables.exec = Jvm.exec) (hb : c.code = cc) (hK : eh_K D tc s) (i : Nat) {y : Int32} (hy : vp_in y 16) (hyi : y.toNatClampNeg = i) (hP : va_P D eh_cl (x :: (q, .inl (tc 0, 16, .inl (ec_p i))) :: ws) H) (hD : va_D A (x :: (q, .inl (tc 0, 16, .inl (ec_p i))) :: ws)) (hS : va_S A s.heap H locs) (hdg : decode cc pc = .ok (.iastore, 1))
    (kk : ∀ (H1 : Heap) (locs1 : List Loc), va_P D eh_cl (x :: (q, .inl (tc 0, 16, .inl (ec_p (i + 1)))) :: ws) H1 → va_D A (x :: (q, .inl (tc 0, 16, .inl (ec_p (i + 1)))) :: ws) → va_S A s.heap H1 locs1 → W p l e R s m args below meth c H1 locs1 cells slots Q (F0 m (pc + 1) ls rest)) : W p l e R s m args below meth c H locs cells slots Q (F0 m pc ls (.int (-1) :: .int y :: .ref q :: rest)) := by
  refine va_iast hx hb hK.1 hP hD hS 1 0 rfl rfl hy hdg (fun H1 locs1 a1 a2 a3 => ?_)
  rw [hyi, ec_p_up] at a1 a2
  exact kk H1 locs1 a1 a2 a3
set_option maxHeartbeats 4000000 in
set_option maxRecDepth 100000 in
theorem ec_c1 (l : Launch) (D : va_G) (tc : Nat → ClassId) (h : Nat) : ec_M l D tc yX1_init cX1_init 1 1 4 153696 (fun _ => True) [.ref h] [(h, .inr (1, ec_f 1 (ec_d 1)))] (fun ws' => ∃ g : Nat → Nat, ws' = ec_W tc (fun _ => 0) 1 h g [0, 1, 2, 3]) := by
  refine ec_mk (by decide) (Nat.le_of_ble_eq_true rfl) rfl (fun p e R s m below meth c Q A la hx hb hml hown hts hK hX hin hA hR hend hP hD hS hl => ?_)
  have hl : lv_has la 1 [(0, .ref h)] := hl
  refine lv_aload_n hx hb dX1_init_0 rfl (lv_at hl 0 rfl) ?_
  refine W.objInit hx hb hown (hts _ q65) (hts _ q58) (hts _ q59) rfl (by rw [hml]; exact hl.1) rfl dX1_init_1 (by rw [hR.2.2.1]; exact Nat.le_of_ble_eq_true rfl) (by rw [hR.2.2.2]; exact Nat.le_of_ble_eq_true rfl) ?_
  refine W.eq (g2 := F0 m 4 la []) rfl ?_
  refine lv_aload_n hx hb dX1_init_4 rfl (lv_at hl 0 rfl) ?_
  refine lv_ldc hx hb hown (hts _ q66) dX1_init_5 ?_
  refine ec_arr hx hb hown hts hK hin hA ec_C1 0 (by decide) rfl q67 (d := .int) rfl 0 (by decide) (x := 38424) (n := 38424) (by decide) rfl (by decide) hP hD hS (by rw [hR.1]; exact Nat.le_of_ble_eq_true rfl) (by rw [hR.2.1]; exact Nat.le_of_ble_eq_true rfl) dX1_init_7 dX1_init_9 (fun q0 H0 locs0 hP hD hS => ?_)
  refine lv_aload_n hx hb dX1_init_12 rfl (lv_at hl 0 rfl) ?_
  refine lv_ldc hx hb hown (hts _ q66) dX1_init_13 ?_
  refine ec_arr hx hb hown hts hK hin hA ec_C1 1 (by decide) rfl q70 (d := .int) rfl 0 (by decide) (x := 38424) (n := 38424) (by decide) rfl (by decide) hP hD hS (by rw [hR.1]; exact Nat.le_of_ble_eq_true rfl) (by rw [hR.2.1]; exact Nat.le_of_ble_eq_true rfl) dX1_init_15 dX1_init_17 (fun q1 H1 locs1 hP hD hS => ?_)
  refine lv_aload_n hx hb dX1_init_20 rfl (lv_at hl 0 rfl) ?_
  refine lv_ldc hx hb hown (hts _ q66) dX1_init_21 ?_
  refine ec_arr hx hb hown hts hK hin hA ec_C1 2 (by decide) rfl q73 (d := .int) rfl 0 (by decide) (x := 38424) (n := 38424) (by decide) rfl (by decide) hP hD hS (by rw [hR.1]; exact Nat.le_of_ble_eq_true rfl) (by rw [hR.2.1]; exact Nat.le_of_ble_eq_true rfl) dX1_init_23 dX1_init_25 (fun q2 H2 locs2 hP hD hS => ?_)
  refine lv_aload_n hx hb dX1_init_28 rfl (lv_at hl 0 rfl) ?_
  refine lv_ldc hx hb hown (hts _ q66) dX1_init_29 ?_
  refine ec_arr hx hb hown hts hK hin hA ec_C1 3 (by decide) rfl q76 (d := .int) rfl 0 (by decide) (x := 38424) (n := 38424) (by decide) rfl (by decide) hP hD hS (by rw [hR.1]; exact Nat.le_of_ble_eq_true rfl) (by rw [hR.2.1]; exact Nat.le_of_ble_eq_true rfl) dX1_init_31 dX1_init_33 (fun q3 H3 locs3 hP hD hS => ?_)
  refine lv_aload_n hx hb dX1_init_36 rfl (lv_at hl 0 rfl) ?_
  refine lv_iconst (v := -1) hx hb dX1_init_37 rfl ?_
  refine ec_put hx hb hown hts hK hin ec_C1 4 (by decide) rfl q77 rfl rfl hP hD hS dX1_init_38 (fun H4 locs4 hP hD hS => ?_)
  refine hend _ _ _ _ _ _ _ (Nat.le_of_ble_eq_true rfl) (Nat.le_of_ble_eq_true rfl) ⟨(fun k => if k = 0 then q0 else if k = 1 then q1 else if k = 2 then q2 else if k = 3 then q3 else 0), ?_⟩ hP hD hS dX1_init_41
  rfl
set_option maxHeartbeats 4000000 in
set_option maxRecDepth 100000 in
theorem ec_c2 (l : Launch) (D : va_G) (tc : Nat → ClassId) (h b : Nat) : ec_M l D tc yX2_init cX2_init 2 1 2 24 (fun _ => True) [.ref h, .ref b] [(h, .inr (2, ec_f 2 (ec_d 2)))] (fun ws' => ∃ g : Nat → Nat, ws' = ec_W tc (fun _ => b) 2 h g [0, 1]) := by
  refine ec_mk (by decide) (Nat.le_of_ble_eq_true rfl) rfl (fun p e R s m below meth c Q A la hx hb hml hown hts hK hX hin hA hR hend hP hD hS hl => ?_)
  have hl : lv_has la 2 [(0, .ref h), (1, .ref b)] := hl
  refine lv_aload_n hx hb dX2_init_0 rfl (lv_at hl 0 rfl) ?_
  refine lv_aload_n hx hb dX2_init_1 rfl (lv_at hl 1 rfl) ?_
  refine ec_put hx hb hown hts hK hin ec_C2 4 (by decide) rfl q109 rfl rfl hP hD hS dX2_init_2 (fun H4 locs4 hP hD hS => ?_)
  refine lv_aload_n hx hb dX2_init_5 rfl (lv_at hl 0 rfl) ?_
  refine W.objInit hx hb hown (hts _ q104) (hts _ q58) (hts _ q59) rfl (by rw [hml]; exact hl.1) rfl dX2_init_6 (by rw [hR.2.2.1]; exact Nat.le_of_ble_eq_true rfl) (by rw [hR.2.2.2]; exact Nat.le_of_ble_eq_true rfl) ?_
  refine W.eq (g2 := F0 m 9 la []) rfl ?_
  refine lv_aload_n hx hb dX2_init_9 rfl (lv_at hl 0 rfl) ?_
  refine lv_bipush (v := 12) hx hb dX2_init_10 rfl ?_
  refine ec_arr hx hb hown hts hK hin hA ec_C2 0 (by decide) rfl q105 (d := .int) rfl 0 (by decide) (x := 12) (n := 12) (by decide) rfl (by decide) hP hD hS (by rw [hR.1]; exact Nat.le_of_ble_eq_true rfl) (by rw [hR.2.1]; exact Nat.le_of_ble_eq_true rfl) dX2_init_12 dX2_init_14 (fun q0 H0 locs0 hP hD hS => ?_)
  refine lv_aload_n hx hb dX2_init_17 rfl (lv_at hl 0 rfl) ?_
  refine lv_bipush (v := 12) hx hb dX2_init_18 rfl ?_
  refine ec_arr hx hb hown hts hK hin hA ec_C2 1 (by decide) rfl q106 (d := .int) rfl 0 (by decide) (x := 12) (n := 12) (by decide) rfl (by decide) hP hD hS (by rw [hR.1]; exact Nat.le_of_ble_eq_true rfl) (by rw [hR.2.1]; exact Nat.le_of_ble_eq_true rfl) dX2_init_20 dX2_init_22 (fun q1 H1 locs1 hP hD hS => ?_)
  refine hend _ _ _ _ _ _ _ (Nat.le_of_ble_eq_true rfl) (Nat.le_of_ble_eq_true rfl) ⟨(fun k => if k = 0 then q0 else if k = 1 then q1 else 0), ?_⟩ hP hD hS dX2_init_25
  rfl
set_option maxHeartbeats 4000000 in
set_option maxRecDepth 100000 in
theorem ec_c3 (l : Launch) (D : va_G) (tc : Nat → ClassId) (h b : Nat) : ec_M l D tc yX3_init cX3_init 2 1 7 430 (fun _ => True) [.ref h, .ref b] [(h, .inr (3, ec_f 3 (ec_d 3)))] (fun ws' => ∃ g : Nat → Nat, ws' = ec_W tc (fun _ => b) 3 h g [4, 5, 6, 7, 8, 13, 14]) := by
  refine ec_mk (by decide) (Nat.le_of_ble_eq_true rfl) rfl (fun p e R s m below meth c Q A la hx hb hml hown hts hK hX hin hA hR hend hP hD hS hl => ?_)
  have hl : lv_has la 2 [(0, .ref h), (1, .ref b)] := hl
  refine lv_aload_n hx hb dX3_init_0 rfl (lv_at hl 0 rfl) ?_
  refine lv_aload_n hx hb dX3_init_1 rfl (lv_at hl 1 rfl) ?_
  refine ec_put hx hb hown hts hK hin ec_C3 16 (by decide) rfl q164 rfl rfl hP hD hS dX3_init_2 (fun H16 locs16 hP hD hS => ?_)
  refine lv_aload_n hx hb dX3_init_5 rfl (lv_at hl 0 rfl) ?_
  refine W.objInit hx hb hown (hts _ q125) (hts _ q58) (hts _ q59) rfl (by rw [hml]; exact hl.1) rfl dX3_init_6 (by rw [hR.2.2.1]; exact Nat.le_of_ble_eq_true rfl) (by rw [hR.2.2.2]; exact Nat.le_of_ble_eq_true rfl) ?_
  refine W.eq (g2 := F0 m 9 la []) rfl ?_
  refine lv_aload_n hx hb dX3_init_9 rfl (lv_at hl 0 rfl) ?_
  refine lv_bipush (v := 6) hx hb dX3_init_10 rfl ?_
  refine ec_arr hx hb hown hts hK hin hA ec_C3 4 (by decide) rfl q136 (d := .int) rfl 0 (by decide) (x := 6) (n := 6) (by decide) rfl (by decide) hP hD hS (by rw [hR.1]; exact Nat.le_of_ble_eq_true rfl) (by rw [hR.2.1]; exact Nat.le_of_ble_eq_true rfl) dX3_init_12 dX3_init_14 (fun q4 H4 locs4 hP hD hS => ?_)
  refine lv_aload_n hx hb dX3_init_17 rfl (lv_at hl 0 rfl) ?_
  refine lv_bipush (v := 6) hx hb dX3_init_18 rfl ?_
  refine ec_arr hx hb hown hts hK hin hA ec_C3 5 (by decide) rfl q139 (d := .int) rfl 0 (by decide) (x := 6) (n := 6) (by decide) rfl (by decide) hP hD hS (by rw [hR.1]; exact Nat.le_of_ble_eq_true rfl) (by rw [hR.2.1]; exact Nat.le_of_ble_eq_true rfl) dX3_init_20 dX3_init_22 (fun q5 H5 locs5 hP hD hS => ?_)
  refine lv_aload_n hx hb dX3_init_25 rfl (lv_at hl 0 rfl) ?_
  refine lv_bipush (v := 6) hx hb dX3_init_26 rfl ?_
  refine ec_arr hx hb hown hts hK hin hA ec_C3 6 (by decide) rfl q142 (d := .int) rfl 0 (by decide) (x := 6) (n := 6) (by decide) rfl (by decide) hP hD hS (by rw [hR.1]; exact Nat.le_of_ble_eq_true rfl) (by rw [hR.2.1]; exact Nat.le_of_ble_eq_true rfl) dX3_init_28 dX3_init_30 (fun q6 H6 locs6 hP hD hS => ?_)
  refine lv_aload_n hx hb dX3_init_33 rfl (lv_at hl 0 rfl) ?_
  refine lv_bipush (v := 6) hx hb dX3_init_34 rfl ?_
  refine ec_arr hx hb hown hts hK hin hA ec_C3 7 (by decide) rfl q145 (d := .int) rfl 0 (by decide) (x := 6) (n := 6) (by decide) rfl (by decide) hP hD hS (by rw [hR.1]; exact Nat.le_of_ble_eq_true rfl) (by rw [hR.2.1]; exact Nat.le_of_ble_eq_true rfl) dX3_init_36 dX3_init_38 (fun q7 H7 locs7 hP hD hS => ?_)
  refine lv_aload_n hx hb dX3_init_41 rfl (lv_at hl 0 rfl) ?_
  refine lv_bipush (v := 6) hx hb dX3_init_42 rfl ?_
  refine ec_arr hx hb hown hts hK hin hA ec_C3 8 (by decide) rfl q148 (d := .int) rfl 0 (by decide) (x := 6) (n := 6) (by decide) rfl (by decide) hP hD hS (by rw [hR.1]; exact Nat.le_of_ble_eq_true rfl) (by rw [hR.2.1]; exact Nat.le_of_ble_eq_true rfl) dX3_init_44 dX3_init_46 (fun q8 H8 locs8 hP hD hS => ?_)
  refine lv_aload_n hx hb dX3_init_49 rfl (lv_at hl 0 rfl) ?_
  refine lv_sipush (v := 200) hx hb dX3_init_50 rfl ?_
  refine ec_arr hx hb hown hts hK hin hA ec_C3 13 (by decide) rfl q158 (d := .int) rfl 0 (by decide) (x := 200) (n := 200) (by decide) rfl (by decide) hP hD hS (by rw [hR.1]; exact Nat.le_of_ble_eq_true rfl) (by rw [hR.2.1]; exact Nat.le_of_ble_eq_true rfl) dX3_init_53 dX3_init_55 (fun q13 H13 locs13 hP hD hS => ?_)
  refine lv_aload_n hx hb dX3_init_58 rfl (lv_at hl 0 rfl) ?_
  refine lv_sipush (v := 200) hx hb dX3_init_59 rfl ?_
  refine ec_arr hx hb hown hts hK hin hA ec_C3 14 (by decide) rfl q160 (d := .boolean) rfl 1 (by decide) (x := 200) (n := 200) (by decide) rfl (by decide) hP hD hS (by rw [hR.1]; exact Nat.le_of_ble_eq_true rfl) (by rw [hR.2.1]; exact Nat.le_of_ble_eq_true rfl) dX3_init_62 dX3_init_64 (fun q14 H14 locs14 hP hD hS => ?_)
  refine hend _ _ _ _ _ _ _ (Nat.le_of_ble_eq_true rfl) (Nat.le_of_ble_eq_true rfl) ⟨(fun k => if k = 4 then q4 else if k = 5 then q5 else if k = 6 then q6 else if k = 7 then q7 else if k = 8 then q8 else if k = 13 then q13 else if k = 14 then q14 else 0), ?_⟩ hP hD hS dX3_init_67
  rfl
