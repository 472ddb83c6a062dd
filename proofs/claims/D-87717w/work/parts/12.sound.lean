/-! soundness: whatever the abstract rules lead to, the machine comes to -/
section EHS
variable {p : Program} {l : Launch} {e : Env} {R : Room} {s : State} {m : MethodId} {args : Array Value} {below : List Frame} {meth : Method} {c : Code}
variable {D : va_G} {tc : Nat → ClassId} {ad : Nat → Int → Nat} {NL : eh_S → List (Nat × Int)} {nm : Nat → Nat} {A : Nat → Prop} {nL : Nat} {cc : ByteArray}
variable {fl : Nat → Option (Nat × Nat)} {kn : Nat → Option Int} {cs ss : Nat → Option (Nat × eh_T)} {lim : Nat × Nat} {Rt : Option eh_V → eh_S → Prop} {rb : Nat} {Qc : Array Value → State → Outcome → State → Prop} {free : Addr → Prop} {own : String}
set_option maxHeartbeats 4000000 in
theorem eh_sound (hx : p.tables.exec = Jvm.exec) (hb : c.code = cc) (hr : meth.sig.returnType = (if rb = 0 then some .int else if rb = 1 then some .boolean else none)) (hlocks : meth.locks = false) (hml : c.maxLocals = nL) (hown : s.vm.findClass own = some m.cls) (hts : ∀ w ∈ lw_all, w.before args s = true) (hK : eh_K D tc s) (hA : ∀ q, s.heap.size ≤ q → A q) (hWd : eh_world nm NL ad)
    (hfl : ∀ idx c k, fl idx = some (c, k) → eh_fok own idx c k) (hkn : ∀ idx z, kn idx = some z → Cond.constant own idx (eh_i z) ∈ lw_all) (hlim : lim.1 ≤ R.cells ∧ lim.2 ≤ R.slots)
    (hcs : ∀ k n T, cs k = some (n, T) → eh_CO p l e R s m args below meth c (MQ below Qc args s lim.1 lim.2 free) D tc ad NL A nL cc (.invokevirtual k) n T)
    (hss : ∀ k n T, ss k = some (n, T) → eh_CO p l e R s m args below meth c (MQ below Qc args s lim.1 lim.2 free) D tc ad NL A nL cc (.invokestatic k) n T)
    (hret : ∀ (r : Option eh_V) (σ : eh_S) (H : Heap) (locs : List Loc), Rt r σ → eh_ok σ → va_P D eh_cl (eh_w ad tc NL σ) H → va_D A (eh_w ad tc NL σ) → va_S A s.heap H locs → (∀ t : State, t.heap = H → s.WarmedH t.vm → Qc args s (.returned (r.map (eh_v ad))) t) ∧ ∀ q ∈ locs, free q.base) :
    ∀ (pc : Nat) (i : Instr) (len : Nat) (ls : eh_L) (st : List eh_V) (σ : eh_S) (b : Nat × Nat), decode cc pc = .ok (i, len) →
      (eh_ok σ → eh_wp nm fl kn cs ss lim Rt rb i len pc ls st σ b (eh_J p l e R s m args below meth c (MQ below Qc args s lim.1 lim.2 free) D tc ad NL A nL)) →
      eh_J p l e R s m args below meth c (MQ below Qc args s lim.1 lim.2 free) D tc ad NL A nL pc ls st σ b := by
  intro pc i len ls st σ b hd hw H locs la hok hP hD hS hl
  replace hw := hw hok
  obtain ⟨hWn, hWN, hWr, hWi, hW99⟩ := hWd
  cases i
  case iconst n => exact lv_iconst hx hb (by rw [← hw.1]; exact hd) rfl (hw.2 H locs la hok hP hD hS hl)
  case bipush n => exact lv_bipush hx hb (by rw [← hw.1]; exact hd) (eh_i_8 hw.2.1) (hw.2.2 H locs la hok hP hD hS hl)
  case sipush n => exact lv_sipush hx hb (by rw [← hw.1]; exact hd) (eh_i_16 hw.2.1) (hw.2.2 H locs la hok hP hD hS hl)
  case ldc k =>
    obtain ⟨rfl, hw⟩ := hw
    cases hk : kn k with
    | none => rw [hk] at hw; exact hw.elim
    | some z =>
      rw [hk] at hw
      exact lv_ldc hx hb hown (hts _ (hkn k z hk)) hd (hw H locs la hok hP hD hS hl)
  case iload_n k =>
    obtain ⟨rfl, hw⟩ := hw
    obtain ⟨z, h1, hw⟩ := eh_ld_s hw
    exact lv_iload_n hx hb hd rfl (eh_lv_at hl h1) (hw H locs la hok hP hD hS hl)
  case iload k =>
    obtain ⟨rfl, hw⟩ := hw
    obtain ⟨z, h1, hw⟩ := eh_ld_s hw
    exact lv_iload hx hb hd (eh_lv_at hl h1) (hw H locs la hok hP hD hS hl)
  case aload_n k =>
    obtain ⟨rfl, hw⟩ := hw
    obtain ⟨z, h1, hw⟩ := eh_lr_s hw
    exact lv_aload_n hx hb hd rfl (eh_lv_at hl h1) (hw H locs la hok hP hD hS hl)
  case aload k =>
    obtain ⟨rfl, hw⟩ := hw
    obtain ⟨z, h1, hw⟩ := eh_lr_s hw
    exact lv_aload hx hb hd (eh_lv_at hl h1) (hw H locs la hok hP hD hS hl)
  case istore_n k =>
    obtain ⟨rfl, hw⟩ := hw
    obtain ⟨z, st, rfl, hk, hw⟩ := eh_1_s hw
    exact lv_istore_n hx hb hd rfl hl.2 (by rw [← hl.1]; exact hk) rfl (fun la' h' => hw H locs la' hok hP hD hS (eh_lv_set hl h'))
  case istore k =>
    obtain ⟨rfl, hw⟩ := hw
    obtain ⟨z, st, rfl, hk, hw⟩ := eh_1_s hw
    exact lv_istore hx hb hd hl.2 (by rw [← hl.1]; exact hk) rfl (fun la' h' => hw H locs la' hok hP hD hS (eh_lv_set hl h'))
  case astore_n k =>
    obtain ⟨rfl, hw⟩ := hw
    obtain ⟨z, st, rfl, hk, hw⟩ := eh_1r_s hw
    exact lv_astore_n hx hb hd rfl hl.2 (by rw [← hl.1]; exact hk) rfl (fun la' h' => hw H locs la' hok hP hD hS (eh_lv_set hl h'))
  case astore k =>
    obtain ⟨rfl, hw⟩ := hw
    obtain ⟨z, st, rfl, hk, hw⟩ := eh_1r_s hw
    exact lv_astore hx hb hd hl.2 (by rw [← hl.1]; exact hk) rfl (fun la' h' => hw H locs la' hok hP hD hS (eh_lv_set hl h'))
  case iinc k n =>
    obtain ⟨rfl, hw⟩ := hw
    obtain ⟨z, h1, hw⟩ := eh_ld_s hw
    obtain ⟨kk, hkk⟩ := List.getElem?_of_mem (eh_ll_mem (ad := ad) (q := (k, eh_v ad (.inl z))) |>.mpr ⟨.inl z, h1, rfl⟩)
    exact lv_iinc hx hb hd hl.2 hkk (eh_i_add z n) (by rw [← hl.1]; exact (List.getElem?_eq_some_iff.mp h1).1) rfl (fun la' h' => hw H locs la' hok hP hD hS (eh_lv_set hl h'))
  case iadd =>
    obtain ⟨rfl, hw⟩ := hw
    obtain ⟨x, y, st, rfl, hw⟩ := eh_2_s hw
    refine lv_iadd hx hb hd ?_
    rw [eh_i_add]
    exact hw H locs la hok hP hD hS hl
  case isub =>
    obtain ⟨rfl, hw⟩ := hw
    obtain ⟨x, y, st, rfl, hw⟩ := eh_2_s hw
    refine lv_isub hx hb hd ?_
    rw [eh_i_sub]
    exact hw H locs la hok hP hD hS hl
  case imul =>
    obtain ⟨rfl, hw⟩ := hw
    obtain ⟨x, y, st, rfl, hw⟩ := eh_2_s hw
    refine lv_imul hx hb hd ?_
    rw [eh_i_mul]
    exact hw H locs la hok hP hD hS hl
  case irem =>
    obtain ⟨rfl, hw⟩ := hw
    obtain ⟨x, y, st, rfl, h1, h2, hw⟩ := eh_2_s hw
    refine lv_irem hx hb hd (fun h => ?_) ?_
    · have := (eh_i_eq0 (x := y) (by unfold eh_r; omega)).mp h
      omega
    · rw [eh_i_rem h1 h2]
      exact hw H locs la hok hP hD hS hl
  case ior =>
    obtain ⟨rfl, hw⟩ := hw
    obtain ⟨x, y, st, rfl, h1, h2, hw⟩ := eh_2_s hw
    refine lv_ior hx hb hd ?_
    rw [eh_i_or h1 h2]
    exact hw H locs la hok hP hD hS hl
  case i2b =>
    obtain ⟨rfl, hw⟩ := hw
    obtain ⟨x, st, rfl, h1, hw⟩ := eh_1_s hw
    exact lv_i2b hx hb hd (eh_i_n8 h1) (hw H locs la hok hP hD hS hl)
  case i2s =>
    obtain ⟨rfl, hw⟩ := hw
    obtain ⟨x, st, rfl, h1, hw⟩ := eh_1_s hw
    exact lv_i2s hx hb hd (eh_i_n16 h1) (hw H locs la hok hP hD hS hl)
  case dup =>
    obtain ⟨rfl, hw⟩ := hw
    rcases st with _ | ⟨v, st⟩
    · exact hw.elim
    · exact lv_dup hx hb hd (eh_v_cat ad v) (hw H locs la hok hP hD hS hl)
  case dup_x1 =>
    obtain ⟨rfl, hw⟩ := hw
    rcases st with _ | ⟨v, _ | ⟨w, st⟩⟩
    · exact hw.elim
    · exact hw.elim
    · exact lv_dup_x1 hx hb hd (eh_v_cat ad v) (eh_v_cat ad w) (hw H locs la hok hP hD hS hl)
  case dup_x2 =>
    obtain ⟨rfl, hw⟩ := hw
    rcases st with _ | ⟨v, _ | ⟨w, _ | ⟨u, st⟩⟩⟩
    · exact hw.elim
    · exact hw.elim
    · exact hw.elim
    · exact lv_dup_x2 hx hb hd (eh_v_cat ad v) (eh_v_cat ad w) (eh_v_cat ad u) (hw H locs la hok hP hD hS hl)
  case dup2 =>
    obtain ⟨rfl, hw⟩ := hw
    rcases st with _ | ⟨v, _ | ⟨w, st⟩⟩
    · exact hw.elim
    · exact hw.elim
    · exact lv_dup2_11 hx hb hd (eh_v_cat ad v) (eh_v_cat ad w) (hw H locs la hok hP hD hS hl)
  case ifCond k off =>
    obtain ⟨rfl, hw⟩ := hw
    obtain ⟨x, st, rfl, h1, ht, hf, h0⟩ := eh_1_s hw
    have htg := (Int.toNat_of_nonneg h0).symm
    cases k
    · exact lv_if_eq hx hb hd htg (fun q => ht ((eh_i_eq0 h1).mp q) H locs la hok hP hD hS hl) (fun q => hf (fun z => q ((eh_i_eq0 h1).mpr z)) H locs la hok hP hD hS hl)
    · exact lv_if_ne hx hb hd htg (fun q => ht (fun z => q ((eh_i_eq0 h1).mpr z)) H locs la hok hP hD hS hl) (fun q => hf (fun z => z ((eh_i_eq0 h1).mp q)) H locs la hok hP hD hS hl)
    · exact lv_if_lt hx hb hd htg (fun q => ht ((eh_i_lt0 h1).mp q) H locs la hok hP hD hS hl) (fun q => hf (fun z => q ((eh_i_lt0 h1).mpr z)) H locs la hok hP hD hS hl)
    · exact lv_if_ge hx hb hd htg (fun q => ht ((eh_i_0le h1).mp q) H locs la hok hP hD hS hl) (fun q => hf (fun z => q ((eh_i_0le h1).mpr z)) H locs la hok hP hD hS hl)
    · exact lv_if_gt hx hb hd htg (fun q => ht ((eh_i_0lt h1).mp q) H locs la hok hP hD hS hl) (fun q => hf (fun z => q ((eh_i_0lt h1).mpr z)) H locs la hok hP hD hS hl)
    · exact lv_if_le hx hb hd htg (fun q => ht ((eh_i_le0 h1).mp q) H locs la hok hP hD hS hl) (fun q => hf (fun z => q ((eh_i_le0 h1).mpr z)) H locs la hok hP hD hS hl)
  case if_icmp k off =>
    obtain ⟨rfl, hw⟩ := hw
    obtain ⟨x, y, st, rfl, h1, h2, ht, hf, h0⟩ := eh_2_s hw
    have htg := (Int.toNat_of_nonneg h0).symm
    cases k
    · exact lv_icmp_eq hx hb hd htg (fun q => ht ((eh_i_eq h1 h2).mp q) H locs la hok hP hD hS hl) (fun q => hf (fun z => q ((eh_i_eq h1 h2).mpr z)) H locs la hok hP hD hS hl)
    · exact lv_icmp_ne hx hb hd htg (fun q => ht (fun z => q ((eh_i_eq h1 h2).mpr z)) H locs la hok hP hD hS hl) (fun q => hf (fun z => z ((eh_i_eq h1 h2).mp q)) H locs la hok hP hD hS hl)
    · exact lv_icmp_lt hx hb hd htg (fun q => ht ((eh_i_lt h1 h2).mp q) H locs la hok hP hD hS hl) (fun q => hf (fun z => q ((eh_i_lt h1 h2).mpr z)) H locs la hok hP hD hS hl)
    · exact lv_icmp_ge hx hb hd htg (fun q => ht ((eh_i_le h2 h1).mp q) H locs la hok hP hD hS hl) (fun q => hf (fun z => q ((eh_i_le h2 h1).mpr z)) H locs la hok hP hD hS hl)
    · exact lv_icmp_gt hx hb hd htg (fun q => ht ((eh_i_lt h2 h1).mp q) H locs la hok hP hD hS hl) (fun q => hf (fun z => q ((eh_i_lt h2 h1).mpr z)) H locs la hok hP hD hS hl)
    · exact lv_icmp_le hx hb hd htg (fun q => ht ((eh_i_le h1 h2).mp q) H locs la hok hP hD hS hl) (fun q => hf (fun z => q ((eh_i_le h1 h2).mpr z)) H locs la hok hP hD hS hl)
  case goto off =>
    obtain ⟨rfl, h0, hw⟩ := hw
    exact lv_goto hx hb hd (Int.toNat_of_nonneg h0).symm (hw H locs la hok hP hD hS hl)
  case tableswitch d lo hi offs =>
    obtain ⟨x, st, rfl, h1, ho, hi'⟩ := eh_1_s hw
    by_cases hc : x < lo ∨ hi < x
    · obtain ⟨h0, hw⟩ := ho hc
      exact lv_tableOut hx hb hd (by rw [eh_i_t h1]; exact hc) (Int.toNat_of_nonneg h0).symm (hw H locs la hok hP hD hS hl)
    · obtain ⟨off, e1, h0, hw⟩ := hi' (by omega) (by omega)
      exact lv_tableIn hx hb hd (by rw [eh_i_t h1]; omega) (by rw [eh_i_t h1]; omega) (by rw [eh_i_t h1]; exact e1) (Int.toNat_of_nonneg h0).symm (hw H locs la hok hP hD hS hl)
  case getfield k =>
    obtain ⟨rfl, hw⟩ := hw
    obtain ⟨⟨c0, i0⟩, st, rfl, f, hf, hli, hw⟩ := eh_1r_s hw
    exact eh_getfield hx hb hown hts hK hP (hfl _ _ _ hf) (hWn σ c0 i0 hli.1 hli.2) hd (hw H locs la hok hP hD hS hl)
  case putfield k =>
    obtain ⟨rfl, hw⟩ := hw
    rcases st with _ | ⟨z | _ | q, _ | ⟨w | _ | ⟨c0, i0⟩, st⟩⟩
    · exact hw.elim
    · exact hw.elim
    · exact hw.elim
    · exact hw.elim
    · obtain ⟨f, hf, hli, hft, hw⟩ := hw
      refine eh_putfield (v := .inl z) (z := eh_wr z) hx hb hown hts hK hP hD hS (hfl _ _ _ hf) (hWn σ c0 i0 hli.1 hli.2) hWN ?_ ?_ hd (fun H1 locs1 hP1 hD1 hS1 => hw H1 locs1 la (eh_ok_sV hok (eh_wr_r z)) hP1 hD1 hS1 hl)
      · rcases hft with h1 | ⟨h1, h2⟩
        · exact Or.inl ⟨h1, _, rfl⟩
        · exact Or.inr (Or.inl ⟨h1, eh_i_z h2, eh_i_fz h2⟩)
      · have hfl' : (eh_ft c0).getD f 0 = 0 ∨ (eh_ft c0).getD f 0 = 1 := by
          obtain ⟨h5, hf2⟩ := hfl _ _ _ hf
          obtain ⟨C, T, N, ty, hcl, hN, -⟩ := eh_coks h5
          have hlt : f < (eh_ft c0).length := by rw [hN]; exact (hf2 C T N hcl).1
          have e9 : (eh_ft c0).getD f 0 = (eh_ft c0).getD f 9 := by simp [hlt]
          rw [e9]
          rcases hft with h1 | ⟨h1, -⟩
          · exact Or.inl h1
          · exact Or.inr h1
        unfold eh_fv
        rcases hfl' with h1 | h1 <;> rw [h1] <;> (dsimp only; rw [eh_sV_p]; show Value.int _ = Value.int _; rw [eh_i_wr])
    · exact hw.elim
    · exact hw.elim
    · exact hw.elim
    · exact hw.elim
    · exact hw.elim
    · exact hw.elim
    · exact hw.elim
    · obtain ⟨f, hf, hli, hft, hq3, hq8, hw⟩ := hw
      obtain ⟨qc, qi⟩ := q
      dsimp only at hq3 hq8 hw
      subst hq3
      refine eh_putfield (v := .inr (some (3, qi))) (z := qi) hx hb hown hts hK hP hD hS (hfl _ _ _ hf) (hWn σ c0 i0 hli.1 hli.2) hWN (Or.inr (Or.inr ⟨hft, _, rfl⟩)) ?_ hd (fun H1 locs1 hP1 hD1 hS1 => hw H1 locs1 la (eh_ok_sV hok (by unfold eh_r; omega)) hP1 hD1 hS1 hl)
      have hfl' : (eh_ft c0).getD f 0 = 3 := by
        obtain ⟨h5, hf2⟩ := hfl _ _ _ hf
        obtain ⟨C, T, N, ty, hcl, hN, -⟩ := eh_coks h5
        have hlt : f < (eh_ft c0).length := by rw [hN]; exact (hf2 C T N hcl).1
        have e9 : (eh_ft c0).getD f 0 = (eh_ft c0).getD f 9 := by simp [hlt]
        rw [e9]
        exact hft
      unfold eh_fv
      rw [hfl']
      dsimp only
      rw [eh_sV_p, if_neg (by omega)]
  case iaload =>
    obtain ⟨rfl, hw⟩ := hw
    obtain ⟨c0, i0, z, st, rfl, hli, hal, hz, hw⟩ := eh_ar_s hw
    obtain ⟨q0, -, hq⟩ := eh_w_at (ad := ad) (tc := tc) (hWn σ c0 i0 hli.1 hli.2)
    rw [eh_c_a (by omega), hal] at hq
    have kk := hw H locs la hok hP hD hS hl
    refine va_iald hx hb hK.1 hP q0 0 hq rfl (eh_i_in hz.1 hz.2 (eh_al_lt c0)) hd ?_
    rw [eh_rd hz (eh_al_lt c0)]
    exact kk
  case iastore =>
    obtain ⟨rfl, hw⟩ := hw
    obtain ⟨c0, i0, z, x, st, rfl, hli, hal, hz, hw⟩ := eh_as_s hw
    obtain ⟨q0, hq0, hq⟩ := eh_w_at (ad := ad) (tc := tc) (hWn σ c0 i0 hli.1 hli.2)
    rw [eh_c_a (by omega), hal] at hq
    have hge := eh_al_ge (show (eh_al c0).1 < 9 by omega)
    have hlt := eh_al_lt c0
    refine va_iast hx hb hK.1 hP hD hS q0 0 hq rfl (eh_i_in hz.1 hz.2 hlt) hd (fun H1 locs1 hP1 hD1 hS1 => ?_)
    obtain ⟨hP2, hD2⟩ := eh_put (σ' := eh_sA σ c0 i0 z (eh_wr x)) hq0 (hWN _ _ rfl rfl) hD (eh_c_sA (by omega) (by omega) (by omega) (by omega)) (by rw [eh_c_a (by omega), hal, eh_sA_nat hz.1 (by omega) (eh_i x) (eh_i_wr x)]) hP1 hD1
    exact hw H1 locs1 la (eh_ok_sA hok (eh_wr_r x)) hP2 hD2 hS1 hl
  case baload =>
    obtain ⟨rfl, hw⟩ := hw
    obtain ⟨c0, i0, z, st, rfl, ⟨rfl, h01, j, hj, ha, hz, hw⟩ | ⟨h99, hli, hal, hz, hw⟩⟩ := eh_ar_s hw
    · obtain ⟨q0, -, hq⟩ := eh_w_at (ad := ad) (tc := tc) ((hWr h01).2.1 σ j hj.1 hj.2)
      rw [eh_c_11, ha] at hq
      have kk := hw H locs la hok hP hD hS hl
      have hl15 : σ.2 15 0 j < 2147483648 := (hok.2 15 0 j (by decide) (by decide) (by decide) (by decide)).2
      have hz' : 0 ≤ z ∧ z < ((σ.2 15 0 j).toNat : Int) := ⟨hz.1, by omega⟩
      show W p l e R s m args below meth c H locs b.1 b.2 _ (F0 m pc la (.int (eh_i z) :: .ref (ad 99 i0) :: st.map (eh_v ad)))
      rw [hW99]
      refine va_bald hx hb hK.1 hP q0 3 hq rfl (eh_i_in hz'.1 hz'.2 (by omega)) hd ?_
      rw [eh_rd hz' (by omega)]
      exact kk
    · obtain ⟨q0, -, hq⟩ := eh_w_at (ad := ad) (tc := tc) (hWn σ c0 i0 hli.1 hli.2)
      rw [eh_c_a (by omega), hal] at hq
      have kk := hw H locs la hok hP hD hS hl
      refine va_zald hx hb hK.1 hP q0 1 hq rfl (eh_i_in hz.1 hz.2 (eh_al_lt c0)) hd ?_
      rw [eh_rd hz (eh_al_lt c0)]
      exact kk
  case saload =>
    obtain ⟨rfl, hw⟩ := hw
    obtain ⟨c0, i0, z, st, rfl, rfl, h01, j, hj, ha, hz, hw⟩ := eh_ar_s hw
    obtain ⟨q0, -, hq⟩ := eh_w_at (ad := ad) (tc := tc) ((hWr h01).1 σ j hj.1 hj.2)
    rw [eh_c_10, ha] at hq
    have kk := hw H locs la hok hP hD hS hl
    have hl14 : σ.2 14 0 j < 2147483648 := (hok.2 14 0 j (by decide) (by decide) (by decide) (by decide)).2
    have hz' : 0 ≤ z ∧ z < ((σ.2 14 0 j).toNat : Int) := ⟨hz.1, by omega⟩
    show W p l e R s m args below meth c H locs b.1 b.2 _ (F0 m pc la (.int (eh_i z) :: .ref (ad 99 i0) :: st.map (eh_v ad)))
    rw [hW99]
    refine va_sald hx hb hK.1 hP q0 2 hq rfl (eh_i_in hz'.1 hz'.2 (by omega)) hd ?_
    rw [eh_rd hz' (by omega)]
    exact kk
  case bastore =>
    obtain ⟨rfl, hw⟩ := hw
    obtain ⟨c0, i0, z, x, st, rfl, ⟨rfl, h01, j, hj, ha, hz, hx8, hw⟩ | ⟨h99, hli, hal, hz, hx1, hw⟩⟩ := eh_as_s hw
    · obtain ⟨q0, hq0, hq⟩ := eh_w_at (ad := ad) (tc := tc) ((hWr h01).2.1 σ j hj.1 hj.2)
      rw [eh_c_11, ha] at hq
      have hl15 : σ.2 15 0 j < 2147483648 := (hok.2 15 0 j (by decide) (by decide) (by decide) (by decide)).2
      have hz' : 0 ≤ z ∧ z < ((σ.2 15 0 j).toNat : Int) := ⟨hz.1, by omega⟩
      show W p l e R s m args below meth c H locs b.1 b.2 _ (F0 m pc la (.int (eh_i x) :: .int (eh_i z) :: .ref (ad 99 i0) :: st.map (eh_v ad)))
      rw [hW99]
      refine va_bast hx hb hK.1 hP hD hS q0 3 hq rfl (eh_i_in hz'.1 hz'.2 (by omega)) hd (fun H1 locs1 hP1 hD1 hS1 => ?_)
      obtain ⟨hP2, hD2⟩ := eh_put (σ' := eh_sA σ 11 j z x) hq0 (hWN _ _ rfl rfl) hD (eh_c_sA (by omega) (by omega) (by omega) (by omega)) (by rw [eh_c_11, eh_sA_c (show (13 : Nat) ≠ 11 by decide), eh_sA_c (show (15 : Nat) ≠ 11 by decide), ha, eh_sA_nat hz.1 (by omega) (vp_nar .byte (eh_i x)) (by rw [vp_nar_byte, eh_i_n8 hx8])]) hP1 hD1
      exact hw H1 locs1 la (eh_ok_sA hok (by unfold eh_r; omega)) hP2 hD2 hS1 hl
    · obtain ⟨q0, hq0, hq⟩ := eh_w_at (ad := ad) (tc := tc) (hWn σ c0 i0 hli.1 hli.2)
      rw [eh_c_a (by omega), hal] at hq
      have hge := eh_al_ge (show (eh_al c0).1 < 9 by omega)
      have hlt := eh_al_lt c0
      refine va_zast hx hb hK.1 hP hD hS q0 1 hq rfl (eh_i_in hz.1 hz.2 hlt) hd (fun H1 locs1 hP1 hD1 hS1 => ?_)
      obtain ⟨hP2, hD2⟩ := eh_put (σ' := eh_sA σ c0 i0 z x) hq0 (hWN _ _ rfl rfl) hD (eh_c_sA (by omega) (by omega) (by omega) (by omega)) (by rw [eh_c_a (by omega), hal, eh_sA_nat hz.1 (by omega) (vp_nar .boolean (eh_i x)) (by unfold vp_nar; rw [eh_i_z hx1])]) hP1 hD1
      exact hw H1 locs1 la (eh_ok_sA hok (by unfold eh_r; omega)) hP2 hD2 hS1 hl
  case sastore =>
    obtain ⟨rfl, hw⟩ := hw
    obtain ⟨c0, i0, z, x, st, rfl, rfl, h01, j, hj, ha, hz, hx8, hw⟩ := eh_as_s hw
    obtain ⟨q0, hq0, hq⟩ := eh_w_at (ad := ad) (tc := tc) ((hWr h01).1 σ j hj.1 hj.2)
    rw [eh_c_10, ha] at hq
    have hl14 : σ.2 14 0 j < 2147483648 := (hok.2 14 0 j (by decide) (by decide) (by decide) (by decide)).2
    have hz' : 0 ≤ z ∧ z < ((σ.2 14 0 j).toNat : Int) := ⟨hz.1, by omega⟩
    show W p l e R s m args below meth c H locs b.1 b.2 _ (F0 m pc la (.int (eh_i x) :: .int (eh_i z) :: .ref (ad 99 i0) :: st.map (eh_v ad)))
    rw [hW99]
    refine va_sast hx hb hK.1 hP hD hS q0 2 hq rfl (eh_i_in hz'.1 hz'.2 (by omega)) hd (fun H1 locs1 hP1 hD1 hS1 => ?_)
    obtain ⟨hP2, hD2⟩ := eh_put (σ' := eh_sA σ 10 j z x) hq0 (hWN _ _ rfl rfl) hD (eh_c_sA (by omega) (by omega) (by omega) (by omega)) (by rw [eh_c_10, eh_sA_c (show (12 : Nat) ≠ 10 by decide), eh_sA_c (show (14 : Nat) ≠ 10 by decide), ha, eh_sA_nat hz.1 (by omega) (vp_nar .short (eh_i x)) (by rw [vp_nar_short, eh_i_n16 hx8])]) hP1 hD1
    exact hw H1 locs1 la (eh_ok_sA hok (by unfold eh_r; omega)) hP2 hD2 hS1 hl
  case aaload =>
    obtain ⟨rfl, hw⟩ := hw
    obtain ⟨c0, i0, z, st, rfl, hli, ⟨rfl, hz, hw⟩ | ⟨hc, hz, rfl, hnn, hw⟩⟩ := eh_ar_s hw
    · obtain ⟨q0, -, hq⟩ := eh_w_at (ad := ad) (tc := tc) (hWn σ 117 i0 hli.1 hli.2)
      rw [eh_c_q (by decide) (by decide)] at hq
      have kk := hw H locs la hok hP hD hS hl
      refine va_aldq (C := "EventHunter$Pattern") (n := 8) hx hb hK.1 hP q0 4 hq rfl (eh_i_in hz.1 hz.2 (by decide)) hd ?_
      have e3 : eh_q ad σ 117 i0 (eh_i z).toNatClampNeg = some (ad 3 z) := by
        unfold eh_q
        rw [if_pos rfl, if_pos (by rw [eh_i_cl hz.1 (by omega)]; omega), eh_rd (n := 8) hz (by decide)]
      rw [e3]
      exact kk
    · have kk := hw H locs la hok hP hD hS hl
      have hal : (eh_al c0).2 = 1000 := by rcases hc with rfl | rfl <;> rfl
      have hne : c0 ≠ 117 := by omega
      obtain ⟨q0, -, hq⟩ := eh_w_at (ad := ad) (tc := tc) (hWn σ c0 0 hli.1 hli.2)
      rw [eh_c_q (by rcases hc with rfl | rfl <;> decide) (by rcases hc with rfl | rfl <;> decide), hal] at hq
      have e3 : eh_q ad σ c0 0 (eh_i z).toNatClampNeg = some (σ.2 c0 0 z).toNat := by
        unfold eh_q
        rw [if_neg hne, eh_rd (n := 1000) hz (by decide), if_neg (by omega)]
      have kk' : W p l e R s m args below meth c H locs b.1 b.2 (MQ below Qc args s lim.1 lim.2 free) (F0 m (pc + 1) la (va_rf (eh_q ad σ c0 0 (eh_i z).toNatClampNeg) :: st.map (eh_v ad))) := by
        rw [e3]
        show W p l e R s m args below meth c H locs b.1 b.2 _ (F0 m (pc + 1) la (.ref (σ.2 c0 0 z).toNat :: st.map (eh_v ad)))
        rw [← hW99]
        exact kk
      rcases hc with rfl | rfl
      · exact eh_aald2 hx hb hK.2.1.1 rfl hP hq (eh_i_in hz.1 hz.2 (by decide)) hd kk'
      · exact eh_aald2 hx hb hK.2.2.1.1 rfl hP hq (eh_i_in hz.1 hz.2 (by decide)) hd kk'
  case aastore =>
    obtain ⟨rfl, hw⟩ := hw
    obtain ⟨c0, i0, z, ⟨c9, a⟩, st, rfl, hli, rfl, h99, h01, ha0, hz, hcj, hw3⟩ := eh_asr_s hw
    dsimp only at h99 ha0 hcj hw3
    subst h99
    have hne : c0 ≠ 117 := by omega
    have hal : (eh_al c0).2 = 1000 := by rcases hcj with ⟨rfl, -⟩ | ⟨rfl, -⟩ <;> rfl
    obtain ⟨q0, hq0, hq⟩ := eh_w_at (ad := ad) (tc := tc) (hWn σ c0 0 hli.1 hli.2)
    rw [eh_c_q (by rcases hcj with ⟨rfl, -⟩ | ⟨rfl, -⟩ <;> decide) (by rcases hcj with ⟨rfl, -⟩ | ⟨rfl, -⟩ <;> decide), hal] at hq
    have hsz : eh_ok (eh_sA σ c0 0 z a) := by
      refine ⟨hok.1, fun c' i' j' k1 k2 k3 k4 => ?_⟩
      rw [eh_sA_c (by omega)]
      exact hok.2 c' i' j' k1 k2 k3 k4
    have hcell : eh_c ad tc (eh_sA σ c0 0 z a) (c0, 0) = (ad c0 0, .inl (tc (eh_al c0).1, 1000, .inr (.inr (.inr (.inr (va_up (fun j => eh_q ad σ c0 0 j) (eh_i z).toNatClampNeg (some a.toNat))))))) := by
      rw [eh_c_q (by rcases hcj with ⟨rfl, -⟩ | ⟨rfl, -⟩ <;> decide) (by rcases hcj with ⟨rfl, -⟩ | ⟨rfl, -⟩ <;> decide), hal]
      have e4 : (fun j => eh_q ad (eh_sA σ c0 0 z a) c0 0 j) = va_up (fun j => eh_q ad σ c0 0 j) (eh_i z).toNatClampNeg (some a.toNat) := by
        funext j
        unfold va_up eh_q
        rw [eh_i_cl hz.1 (by omega)]
        by_cases hj : j = z.toNat
        · rw [if_pos hj, if_neg hne, show (j : Int) = z by omega, eh_sA_p, if_neg (by omega)]
        · rw [if_neg hj, if_neg hne]
          dsimp only
          rw [if_neg hne, eh_sA_n (show (j : Int) ≠ z by omega)]
      rw [e4]
    have kk' : ∀ (H1 : Heap) (locs1 : List Loc), va_P D eh_cl ((eh_w ad tc NL σ).set q0 (ad c0 0, .inl (tc (eh_al c0).1, 1000, .inr (.inr (.inr (.inr (va_up (fun j => eh_q ad σ c0 0 j) (eh_i z).toNatClampNeg (some a.toNat)))))))) H1 → va_D A ((eh_w ad tc NL σ).set q0 (ad c0 0, .inl (tc (eh_al c0).1, 1000, .inr (.inr (.inr (.inr (va_up (fun j => eh_q ad σ c0 0 j) (eh_i z).toNatClampNeg (some a.toNat)))))))) → va_S A s.heap H1 locs1 → W p l e R s m args below meth c H1 locs1 b.1 b.2 (MQ below Qc args s lim.1 lim.2 free) (F0 m (pc + 1) la (st.map (eh_v ad))) := by
      intro H1 locs1 hP1 hD1 hS1
      obtain ⟨hP2, hD2⟩ := eh_put (σ' := eh_sA σ c0 0 z a) hq0 (hWN _ _ rfl rfl) hD (eh_c_sA (by omega) (by omega) (by omega) (by omega)) hcell hP1 hD1
      exact hw3 H1 locs1 la hsz hP2 hD2 hS1 hl
    show W p l e R s m args below meth c H locs b.1 b.2 _ (F0 m pc la (.ref (ad 99 a) :: .int (eh_i z) :: .ref (ad c0 0) :: st.map (eh_v ad)))
    rw [hW99]
    rcases hcj with ⟨rfl, j, hj, hja⟩ | ⟨rfl, j, hj, hja⟩
    · obtain ⟨q1, -, hq1⟩ := eh_w_at (ad := ad) (tc := tc) ((hWr h01).1 σ j hj.1 hj.2)
      rw [eh_c_10, hja] at hq1
      obtain ⟨-, k, kc, g1, g2, g3⟩ := hK.2.1
      exact eh_aast2 hx hb g1 g2 rfl g3 hP hD hS hq hq1 (eh_i_in hz.1 hz.2 (by decide)) hd kk'
    · obtain ⟨q1, -, hq1⟩ := eh_w_at (ad := ad) (tc := tc) ((hWr h01).2.1 σ j hj.1 hj.2)
      rw [eh_c_11, hja] at hq1
      obtain ⟨-, k, kc, g1, g2, g3⟩ := hK.2.2.1
      exact eh_aast2 hx hb g1 g2 rfl g3 hP hD hS hq hq1 (eh_i_in hz.1 hz.2 (by decide)) hd kk'
  case newarray t =>
    cases t
    case short =>
      obtain ⟨rfl, hw⟩ := hw
      obtain ⟨z, st, rfl, hz, h01, hG, hbl, hw⟩ := eh_1_s hw
      obtain ⟨l1, l2, hN1, hN2⟩ := (hWr h01).2.2.1 σ (fun v i => if v = 10 ∧ i = 0 then σ.1 10 0 + 1 else σ.1 v i, fun c i j => if c = 12 ∧ i = 0 ∧ j = σ.1 10 0 then (H.size : Int) else if c = 14 ∧ i = 0 ∧ j = σ.1 10 0 then z else if c = 10 ∧ i = σ.1 10 0 then 0 else σ.2 c i j) hG.1 (by simp) (by simp)
      refine va_newaK (atype := .short) hx hb (hts _ q402) rfl hd rfl (by rw [eh_i_lt0 (by unfold eh_r; omega)]; omega) (eh_i_cl hz.1 (by omega)) (by show z.toNat * 2 ≤ _; omega) (by omega) (by omega) rfl (fun H' cA e1 z1 o1 hAr hNm => ?_)
      have hcA : cA = tc 2 := Option.some.inj (hNm.symm.trans (hK.1.2 2 _ rfl).2)
      subst hcA
      obtain ⟨hP1, hD1, hS1⟩ := eh_alloc (s := s) (σ := σ) (n0 := (10, σ.1 10 0)) hN1 hN2 (fun n hn => by
        obtain ⟨g1, g2, g3⟩ := hWi σ n hn
        refine eh_c_new (fun v hv => ?_) (fun c hc => ?_) g1 (fun e10 => ?_) (fun e11 => ?_) (fun c h5 h10 => ?_)
        · funext i; exact if_neg (by omega)
        · funext i j; dsimp only; rw [if_neg (by omega), if_neg (by omega), if_neg (by omega)]
        · have := g2 e10
          refine ⟨?_, ?_, ?_⟩
          · dsimp only; rw [if_neg (by omega), if_neg (by omega), if_neg (by omega)]
          · dsimp only; rw [if_neg (by omega), if_neg (by omega), if_neg (by omega)]
          · funext j; dsimp only; rw [if_neg (by omega), if_neg (by omega), if_neg (by omega)]
        · refine ⟨?_, ?_, ?_⟩
          · dsimp only; rw [if_neg (by omega), if_neg (by omega), if_neg (by omega)]
          · dsimp only; rw [if_neg (by omega), if_neg (by omega), if_neg (by omega)]
          · funext j; dsimp only; rw [if_neg (by omega), if_neg (by omega), if_neg (by omega)]
        · funext i j; dsimp only; rw [if_neg (by omega), if_neg (by omega), if_neg (by omega)]) hP hD hS hA (by
        rw [eh_c_10]
        show H'[_]? = some (vp_cell _ _)
        dsimp only
        rw [if_pos ⟨rfl, rfl, rfl⟩, if_neg (by omega), if_pos ⟨rfl, rfl, rfl⟩, Int.toNat_natCast, e1, vp_cell_i]
        congr 2
        funext j
        rw [if_neg (by omega), if_neg (by omega), if_pos ⟨rfl, rfl⟩]
        rfl) (by rw [eh_c_10]; dsimp only; rw [if_pos ⟨rfl, rfl, rfl⟩, Int.toNat_natCast]) z1 o1
      have kk := hw (H.size : Int) (Int.natCast_nonneg _) H' locs la (by
        refine ⟨fun v i => ?_, fun c i j k1 k2 k3 k4 => ?_⟩
        · dsimp only
          split
          · unfold eh_r; omega
          · exact hok.1 v i
        · dsimp only
          rw [if_neg (fun q => k1 q.1)]
          split
          · unfold eh_r; omega
          · split
            · exact eh_r_0
            · exact hok.2 c i j k1 k2 k3 k4) hP1 hD1 hS1 hl
      have e99 : ad 99 (H.size : Int) = H.size := by rw [hW99, Int.toNat_natCast]
      have kk2 : W p l e R s m args below meth c H' locs (b.1 + 1) (b.2 + z.toNat) (MQ below Qc args s lim.1 lim.2 free) (F0 m (pc + 2) la (.ref (ad 99 (H.size : Int)) :: st.map (eh_v ad))) := kk
      rw [e99] at kk2
      exact kk2
    case byte =>
      obtain ⟨rfl, hw⟩ := hw
      obtain ⟨z, st, rfl, hz, h01, hG, hbl, hw⟩ := eh_1_s hw
      obtain ⟨l1, l2, hN1, hN2⟩ := (hWr h01).2.2.2 σ (fun v i => if v = 11 ∧ i = 0 then σ.1 11 0 + 1 else σ.1 v i, fun c i j => if c = 13 ∧ i = 0 ∧ j = σ.1 11 0 then (H.size : Int) else if c = 15 ∧ i = 0 ∧ j = σ.1 11 0 then z else if c = 11 ∧ i = σ.1 11 0 then 0 else σ.2 c i j) hG.1 (by simp) (by simp)
      refine va_newaK (atype := .byte) hx hb (hts _ q403) rfl hd rfl (by rw [eh_i_lt0 (by unfold eh_r; omega)]; omega) (eh_i_cl hz.1 (by omega)) (by show z.toNat * 1 ≤ _; omega) (by omega) (by omega) rfl (fun H' cA e1 z1 o1 hAr hNm => ?_)
      have hcA : cA = tc 3 := Option.some.inj (hNm.symm.trans (hK.1.2 3 _ rfl).2)
      subst hcA
      obtain ⟨hP1, hD1, hS1⟩ := eh_alloc (s := s) (σ := σ) (n0 := (11, σ.1 11 0)) hN1 hN2 (fun n hn => by
        obtain ⟨g1, g2, g3⟩ := hWi σ n hn
        refine eh_c_new (fun v hv => ?_) (fun c hc => ?_) g1 (fun e10 => ?_) (fun e11 => ?_) (fun c h5 h10 => ?_)
        · funext i; exact if_neg (by omega)
        · funext i j; dsimp only; rw [if_neg (by omega), if_neg (by omega), if_neg (by omega)]
        · refine ⟨?_, ?_, ?_⟩
          · dsimp only; rw [if_neg (by omega), if_neg (by omega), if_neg (by omega)]
          · dsimp only; rw [if_neg (by omega), if_neg (by omega), if_neg (by omega)]
          · funext j; dsimp only; rw [if_neg (by omega), if_neg (by omega), if_neg (by omega)]
        · have := g3 e11
          refine ⟨?_, ?_, ?_⟩
          · dsimp only; rw [if_neg (by omega), if_neg (by omega), if_neg (by omega)]
          · dsimp only; rw [if_neg (by omega), if_neg (by omega), if_neg (by omega)]
          · funext j; dsimp only; rw [if_neg (by omega), if_neg (by omega), if_neg (by omega)]
        · funext i j; dsimp only; rw [if_neg (by omega), if_neg (by omega), if_neg (by omega)]) hP hD hS hA (by
        rw [eh_c_11]
        show H'[_]? = some (vp_cell _ _)
        dsimp only
        rw [if_pos ⟨rfl, rfl, rfl⟩, if_neg (by omega), if_pos ⟨rfl, rfl, rfl⟩, Int.toNat_natCast, e1, vp_cell_i]
        congr 2
        funext j
        rw [if_neg (by omega), if_neg (by omega), if_pos ⟨rfl, rfl⟩]
        rfl) (by rw [eh_c_11]; dsimp only; rw [if_pos ⟨rfl, rfl, rfl⟩, Int.toNat_natCast]) z1 o1
      have kk := hw (H.size : Int) (Int.natCast_nonneg _) H' locs la (by
        refine ⟨fun v i => ?_, fun c i j k1 k2 k3 k4 => ?_⟩
        · dsimp only
          split
          · unfold eh_r; omega
          · exact hok.1 v i
        · dsimp only
          rw [if_neg (fun q => k2 q.1)]
          split
          · unfold eh_r; omega
          · split
            · exact eh_r_0
            · exact hok.2 c i j k1 k2 k3 k4) hP1 hD1 hS1 hl
      have e99 : ad 99 (H.size : Int) = H.size := by rw [hW99, Int.toNat_natCast]
      have kk2 : W p l e R s m args below meth c H' locs (b.1 + 1) (b.2 + z.toNat) (MQ below Qc args s lim.1 lim.2 free) (F0 m (pc + 2) la (.ref (ad 99 (H.size : Int)) :: st.map (eh_v ad))) := kk
      rw [e99] at kk2
      exact kk2
    all_goals exact hw.elim
  case invokevirtual k =>
    obtain ⟨rfl, hw⟩ := hw
    cases hk : cs k with
    | none => rw [hk] at hw; exact hw.elim
    | some nT =>
      obtain ⟨n, T⟩ := nT
      rw [hk] at hw
      obtain ⟨hn, h8, bd, hb1, hb2, hT⟩ := hw
      have := hcs k n T hk pc (st.take n).reverse (st.drop n) σ b bd _ H locs la hd (by simp; omega) h8 (by omega) (by omega) hT hok hP hD hS hl.2.1 (fun r σ' H1 locs1 k1 k2 k3 k4 k5 => k1 H1 locs1 la k2 k3 k4 k5 hl)
      rw [List.reverse_reverse, List.take_append_drop] at this
      exact this
  case invokestatic k =>
    obtain ⟨rfl, hw⟩ := hw
    cases hk : ss k with
    | none => rw [hk] at hw; exact hw.elim
    | some nT =>
      obtain ⟨n, T⟩ := nT
      rw [hk] at hw
      obtain ⟨hn, h8, bd, hb1, hb2, hT⟩ := hw
      have := hss k n T hk pc (st.take n).reverse (st.drop n) σ b bd _ H locs la hd (by simp; omega) h8 (by omega) (by omega) hT hok hP hD hS hl.2.1 (fun r σ' H1 locs1 k1 k2 k3 k4 k5 => k1 H1 locs1 la k2 k3 k4 k5 hl)
      rw [List.reverse_reverse, List.take_append_drop] at this
      exact this
  case ireturn =>
    obtain ⟨rfl, hw⟩ := hw
    rcases st with _ | ⟨z | o, _ | ⟨w, st⟩⟩
    · exact hw.elim
    · obtain ⟨hz, hbl, hR⟩ := hw
      obtain ⟨h1, h2⟩ := hret _ σ H locs hR hok hP hD hS
      refine W.widen hbl.1 hbl.2 ?_
      rcases hz with h0 | ⟨h0, hz⟩
      · rw [if_pos h0] at hr
        exact W.iret hx hb hr h1 h2 hd hlocks
      · rw [if_neg (by omega), if_pos h0] at hr
        exact W.zret hx hb hr (eh_i_z hz) h1 h2 hd hlocks
    · exact hw.elim
    · exact hw.elim
    · exact hw.elim
  case return_ =>
    obtain ⟨rfl, h0, rfl, hbl, hR⟩ := hw
    obtain ⟨h1, h2⟩ := hret _ σ H locs hR hok hP hD hS
    refine W.widen hbl.1 hbl.2 ?_
    rw [if_neg (by omega), if_neg (by omega)] at hr
    exact W.vret hx hb hr h1 h2 hd hlocks
  all_goals exact hw.elim
end EHS
