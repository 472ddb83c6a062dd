/-! EventHunter: mark -/
theorem ls_fm_congr {α β : Type} {f g : α → List β} : ∀ {l : List α}, (∀ q ∈ l, f q = g q) → l.flatMap f = l.flatMap g := by
  intro l
  induction l with
  | nil => intro _; rfl
  | cons a l ih =>
    intro h
    rw [List.flatMap_cons, List.flatMap_cons, h a List.mem_cons_self, ih (fun q hq => h q (List.mem_cons_of_mem _ hq))]
theorem ls_fm_len {α β : Type} {f : α → List β} {k : Nat} : ∀ {l : List α}, (∀ q ∈ l, (f q).length ≤ k) → (l.flatMap f).length ≤ k * l.length := by
  intro l
  induction l with
  | nil => intro _; exact Nat.le_refl _
  | cons a l ih =>
    intro h
    rw [List.flatMap_cons, List.length_append, List.length_cons]
    have h1 := h a List.mem_cons_self
    have h2 := ih (fun q hq => h q (List.mem_cons_of_mem _ hq))
    rw [Nat.mul_add]
    omega
theorem ls_fm_perm {α β : Type} {f : α → List β} {l1 l2 : List α} (h : l1.Perm l2) : (l1.flatMap f).Perm (l2.flatMap f) := by
  induction h with
  | nil => exact List.Perm.refl _
  | cons x _ ih => rw [List.flatMap_cons, List.flatMap_cons]; exact ih.append_left _
  | swap x y l =>
    rw [List.flatMap_cons, List.flatMap_cons, List.flatMap_cons, List.flatMap_cons, ← List.append_assoc, ← List.append_assoc]
    exact List.perm_append_comm.append_right _
  | trans _ _ ih1 ih2 => exact ih1.trans ih2
def xz_oth (Gs : Int → List (Int × pu_Rn)) (p : Nat) : List Int := ((List.range 8).erase p).flatMap (fun q : Nat => (Gs q).map Prod.fst)
theorem xz_rts_perm {Gs : Int → List (Int × pu_Rn)} {p : Nat} (hp : p < 8) : (xz_rts Gs).Perm ((Gs p).map Prod.fst ++ xz_oth Gs p) := by
  have := ls_fm_perm (f := fun q : Nat => (Gs q).map Prod.fst) (List.perm_cons_erase (List.mem_range.mpr hp))
  rw [List.flatMap_cons] at this
  exact this
theorem xz_oth_mem {p q : Nat} (h : q ∈ (List.range 8).erase p) : q ≠ p ∧ q < 8 := by
  have := (List.nodup_range (n := 8)).mem_erase_iff.mp h
  exact ⟨this.1, List.mem_range.mp this.2⟩
/-- z's words for E and P stay while only the flags of patterns change -/
theorem xz_ctx0 {σ : eh_S} {z : pz_Z} {p n : Int} (h : xz σ z) (hE : pz_okE0 z) (hpk : pu_pok (pz_P z p)) (hp : 0 ≤ p ∧ p < 8) (hn : n ≤ z.1.1 1 0) : xc_C σ p (pz_E z) (pz_P z p) n := by
  obtain ⟨⟨b1, b2, b3, b4⟩, c1, d1⟩ := h.2.2.2.2.1 p hp.1 hp.2
  have h1 := hE.1
  refine ⟨hp, ⟨by omega, ⟨h.1, fun e h0 h2 => ?_, fun j h0 h2 => h.2.1.2.2 j h0 (by omega)⟩, pu_eok_lo hE.2.2.2.1 hn⟩, ⟨b4, b3, b1, b2, fun j h0 h1 => ?_⟩, hpk⟩
  · have := h.2.1.2.1 e h0 (by omega)
    exact ⟨this.1, this.2.1⟩
  · obtain ⟨e1, e2, e3, e4, e5⟩ := d1 j h0 h1
    exact ⟨e1, e2, e3, fun _ => ⟨e4, e5⟩⟩
def Tx_mark : eh_T := eh_R0 fun as σ bd K => ∃ (m : Int) (z : pz_Z), as = [.inl m] ∧ eh_r m ∧ xz σ z ∧ pz_ok z ∧ (3328 * ((pz_mark m z).2.1.1 0 0 - z.1.1 0 0).toNat ≤ bd.1 ∧ 79872 * ((pz_mark m z).2.1.1 0 0 - z.1.1 0 0).toNat ≤ bd.2) ∧ xk (pz_mark m z) σ K
theorem cx_mark (l : Launch) (D : va_G) (tc : Nat → ClassId) (ad : Nat → Int → Nat) (h99 : ∀ a : Int, ad 99 a = a.toNat) : eh_M l D tc ad eh_LX yX0_mark cX0_mark 5 (some .int) 5 Tx_mark := by
  refine eh_mk (rb := 0) (nm := eh_nX) (fl := eh_fl0) (kn := eh_kn0) (cs := (fun kk => match kk with | 155 => some (2, Tp_come) | _ => none)) (ss := (fun kk => match kk with | 77 => some (3, Tx_within) | _ => none)) (by decide) (eh_worldX h99) eh_fl0_ok eh_kn0_ok (fun kk n T h => by
    split at h
    · cases h; exact eh_callV (c0 := 3) (cp_come l D tc ad h99) q326 q327 q328 q48 q329 (by decide +kernel) (by decide) (by decide) (by decide) rfl (eh_worldX h99) (fun _ _ _ _ h => eh_R3_rec h)
    · cases h) (fun kk n T h => by
    split at h
    · cases h; exact eh_callS (cx_within l D tc ad h99) q283 q284 q45 q285 (by decide +kernel) (by decide) (by decide)
    · cases h) ?_
  rintro as σ bd K ⟨_, rfl, m, z, rfl, hm, hz, ho, hbd, hK⟩
  refine ⟨Nat.le_of_ble_eq_true rfl, fun X hX => ?_⟩
  have hzb : (0, 0).1 ≤ bd.1 ∧ (0, 0).2 ≤ bd.2 := ⟨Nat.zero_le _, Nat.zero_le _⟩
  -- the patterns, one by one
  have key74 : ∀ (j : Nat) (p e c : Int) (z' : pz_Z) (σ' : eh_S) (b : Nat × Nat) (o4 : Option eh_V), 0 ≤ p → p + j = z'.1.1 4 0 → pz_okm z' p → xz σ' z' → eh_fr pX_V pX_A σ σ' → σ'.1 116 0 = p → e = z'.1.1 0 0 - 1 → (b.1 + 416 * j ≤ bd.1 ∧ b.2 + 9984 * j ≤ bd.2) → (∀ (σ'' : eh_S) (b' : Nat × Nat) (o3 o4 : Option eh_V), (b'.1 ≤ b.1 + 416 * j ∧ b'.2 ≤ b.2 + 9984 * j) → eh_fr pX_V pX_A σ σ'' → xz σ'' (pz_pats e j p z') → X 30 [some (.inr (some (0, 0))), some (.inl m), some (.inl c), o3, o4] [] σ'' b') → X 74 [some (.inr (some (0, 0))), some (.inl m), some (.inl c), some (.inl e), o4] [] σ' b := by
    intro j
    induction j with
    | zero =>
      intro p e c z' σ' b o4 hp hj hok hx hf h116 he hb hcont
      have h118 : σ'.1 118 0 = z'.1.1 4 0 := hx.2.2.2.1.2.2.2
      refine bX0_mark_74 hX (T155 := Tp_come) rfl (by omega) (fun _ => ?_)
      rw [h116, h118]
      exact ⟨fun _ => hcont σ' b _ _ (by omega) hf hx, fun h => by omega⟩
    | succ j ih =>
      intro p e c z' σ' b o4 hp hj hok hx hf h116 he hb hcont
      have h118 : σ'.1 118 0 = z'.1.1 4 0 := hx.2.2.2.1.2.2.2
      have hE0 := hok.2.1
      have hnp := hE0.2.1
      have hp8 : 0 ≤ p ∧ p < 8 := by omega
      obtain ⟨c1, c2, c3, c4, c5, c6, c7, c8, c9, c10⟩ := hok.2.2.1 p hp8.1 hp8.2
      rw [if_neg (by omega)] at c6 c7
      have hx' := hx
      obtain ⟨a1, a2, a3, a4, a5, a6, a7⟩ := hx
      obtain ⟨⟨f1, f2, f3, f4⟩, ⟨g1, g2, g3, g4⟩, d1⟩ := a5 p hp8.1 hp8.2
      rw [pz_pats] at hcont
      -- behind pattern p
      have nxt : ∀ (σ2 : eh_S) (b2 : Nat × Nat) (o4 : Option eh_V), (b2.1 ≤ b.1 + 416 ∧ b2.2 ≤ b.2 + 9984) → eh_fr pX_V pX_A σ σ2 → xz σ2 (pz_pat e p z') → σ2.1 116 0 = p → X 127 [some (.inr (some (0, 0))), some (.inl m), some (.inl c), some (.inl e), o4] [] σ2 b2 := by
        intro σ2 b2 o4 hb2 hf2 hx2 h116'
        refine bX0_mark_127 hX (by omega) (fun _ => ?_)
        rw [h116']
        refine ⟨by omega, ?_⟩
        have hf3 : eh_fr [116] [] σ2 (eh_sV σ2 116 0 (p + 1)) := eh_fr_sV eh_fr_rf (by decide)
        have hpat := pz_patA (z := z') (e := e) (p := p)
        have hok2 := pz_pat_ok hok hp8
        rw [← he] at hok2
        refine ih (p + 1) e c (pz_pat e p z') _ b2 o4 (by omega) (by rw [hpat.1]; omega) hok2 ?_ (eh_fr_tr hf2 (eh_fr_up hf3 (by decide) (by decide))) eh_sV_p (by rw [hpat.1]; exact he) (by omega) (fun σ3 b3 o3 o4 hb3 hf3' hx3 => hcont σ3 b3 o3 o4 (by omega) hf3' hx3)
        obtain ⟨q1, q2, q3, q4, q5, q6, q7⟩ := hx2
        exact ⟨xz_A_t q1 rfl rfl, xz_B_t q2 (hf3.1 106 (by decide)) (fun _ _ => rfl) rfl (fun _ _ => rfl), xz_C_t q3 rfl rfl, xz_D_t q4 (fun v hv => hf3.1 v (by simp only [List.mem_cons, List.not_mem_nil, or_false] at hv ⊢; omega)) (fun _ _ => rfl), xz_F_t q5 (fun v hv => hf3.1 v (by simp only [List.mem_cons, List.not_mem_nil, or_false] at hv ⊢; omega)) (fun _ _ => rfl) (fun _ _ _ => rfl), xz_W_t q6 hf3 (by decide) (by decide) rfl, xm_M_fr q7 hf3 (by decide) (by decide)⟩
      refine bX0_mark_74 hX (T155 := Tp_come) rfl (by omega) (fun _ => ?_)
      rw [h116, h118, f4, g2]
      refine ⟨fun h => by omega, fun _ => ⟨hp8, fun h0 => ?_, fun h0 => ⟨fun hs => ?_, fun hs => ?_⟩⟩⟩
      · refine nxt σ' b _ (by omega) hf ?_ h116
        unfold pz_pat
        rw [pz_if_t h0]
        exact hx'
      · -- it comes
        have hpS : pz_pat e p z' = pz_patS e p z' := by unfold pz_pat; rw [pz_if_f h0, pz_if_f (fun h => h hs)]
        have pzc := (pz_patA (z := z') (e := e) (p := p)).2
        have pzv := (pz_patA (z := z') (e := e) (p := p)).1
        rw [hpS] at pzc pzv
        have hf1 : eh_fr [409] [] σ' (eh_sV σ' 409 p 1) := eh_fr_sV eh_fr_rf (by decide)
        have h409 : ∀ q, (eh_sV σ' 409 p 1).1 409 q = (if q = p then 1 else σ'.1 409 q) := fun q => by
          by_cases hq : q = p
          · rw [if_pos hq, hq, eh_sV_p]
          · rw [if_neg hq, eh_sV_n hq]
        generalize eh_sV σ' 409 p 1 = σ1 at hf1 h409
        obtain ⟨Gs, hG, hI⟩ := a6
        obtain ⟨k1, k2, k3⟩ := hG p hp8.1 hp8.2
        have hpn : ((p.toNat : Nat) : Int) = p := Int.toNat_of_nonneg hp8.1
        have hp8' : p.toNat < 8 := by omega
        have hgq : ∀ q : Nat, q < 8 → (∀ y ∈ Gs q, pu_gd (pz_P z' q) (z'.1.1 0 0) y.2.1) ∧ (Gs q).length ≤ 200 := fun q hq => by
          have hLq := (hok.2.2.1 q (by omega) (by omega)).2.2.2.2.2.2.1
          have hq1 := (hG q (by omega) (by omega)).1
          refine ⟨fun y hy => pu_gd_up (hLq.2 y.2 (by rw [← hq1]; exact List.mem_map.mpr ⟨y, hy, rfl⟩)) (by split <;> omega), ?_⟩
          have := hLq.1
          rwa [← hq1, List.length_map] at this
        have hOl : (xz_oth Gs p.toNat).length ≤ 1400 := by
          have h7 : ((List.range 8).erase p.toNat).length = 7 := by rw [List.length_erase_of_mem (List.mem_range.mpr hp8'), List.length_range]
          have := ls_fm_len (f := fun q : Nat => (Gs q).map Prod.fst) (k := 200) (l := (List.range 8).erase p.toNat) (fun q hq => by rw [List.length_map]; exact (hgq q (xz_oth_mem hq).2).2)
          rw [h7] at this
          exact this
        have hOm : ∀ r ∈ xz_oth Gs p.toNat, ∃ q : Nat, (q ≠ p.toNat ∧ q < 8) ∧ ∃ y ∈ Gs q, y.1 = r := fun r hr => by
          obtain ⟨q, hq, hq2⟩ := List.mem_flatMap.mp hr
          obtain ⟨y, hy, rfl⟩ := List.mem_map.mp hq2
          exact ⟨q, xz_oth_mem hq, y, hy, rfl⟩
        have hOC : xw_C σ1 (xz_oth Gs p.toNat) := fun r hr => by
          obtain ⟨q, hq, y, hy, rfl⟩ := hOm r hr
          refine ⟨y.2.1, xw_way_fr hf1 (by decide) ((hG q (by omega) (by omega)).2.2 y hy), ?_⟩
          exact (pu_gd_len ((hgq q hq.2).1 y hy) (hok.2.2.1 q (by omega) (by omega)).1).2
        have hprm := xz_rts_perm (Gs := Gs) hp8'
        rw [hpn] at hprm
        have hM := hok.2.2.2.1
        have hb0 := hE0.1
        have h1t := hok.1
        refine ⟨(416, 9984), ⟨by dsimp only; omega, by dsimp only; omega⟩, p, _, rfl, hp8, e, pz_E z', pz_P z' p, Gs p, xz_oth Gs p.toNat, z'.2.2, z'.1.2 22 p 0, rfl, xc_C_fr (xz_ctx0 hx' hE0 c1 hp8 (by omega)) hf1 (by decide) (by decide), by omega, ?_, by rw [hf1.1 116 (by decide)]; exact h116, xr_G_fr k2 hf1 (by decide) (by decide), by rw [k1, he]; exact c7, fun y hy => xw_way_fr hf1 (by decide) (k3 y hy), xw_I_perm (xw_I_fr hI hf1 (by decide) (by decide) (by decide)) hprm, hOl, hOC, xm_M_fr a7 hf1 (by decide) (by decide), by rw [hf1.1 412 (by decide)]; exact g4, by omega, by omega, by rw [hf1.1 410 (by decide), g2]; exact hs, ⟨Nat.le_refl _, Nat.le_refl _⟩, fun σ2 G' hmap hS => ?_⟩
        · have : 0 ≤ z'.1.2 15 p 0 := c1.1.1
          show 0 < z'.1.2 15 p 0
          omega
        · obtain ⟨s1, s2, s3, s4, s5, s6, s7, s8, s9⟩ := hS
          rw [k1] at hmap s7 s8 s9
          refine nxt σ2 _ _ ⟨by dsimp only; omega, by dsimp only; omega⟩ (eh_fr_tr hf (eh_fr_tr (eh_fr_up hf1 (by decide) (by decide)) (eh_fr_up s1 (by decide) (by decide)))) ?_ (by rw [s1.1 116 (by decide), hf1.1 116 (by decide)]; exact h116)
          have ev : ∀ v, v ≠ 409 → v ∉ fx_V → σ2.1 v = σ'.1 v := fun v h1 h2 => by rw [s1.1 v h2, hf1.1 v (by simpa using h1)]
          have ec : ∀ c, c ∉ fx_A → σ2.2 c = σ'.2 c := fun c h2 => by rw [s1.2 c h2, hf1.2 c (by simp)]
          rw [hpS]
          refine ⟨xz_A_t a1 (ec 100 (by decide)) (pzc 3 (by decide) (by decide) (by decide)), xz_B_t a2 (ev 106 (by decide) (by decide)) (fun c hc => ec c (by simp only [List.mem_cons, List.not_mem_nil, or_false] at hc ⊢; omega)) (by rw [pzv]) (fun c hc => pzc c (by simp only [List.mem_cons, List.not_mem_nil, or_false] at hc; omega) (by simp only [List.mem_cons, List.not_mem_nil, or_false] at hc; omega) (by simp only [List.mem_cons, List.not_mem_nil, or_false] at hc; omega)), xz_C_t a3 (ec 109 (by decide)) (pzc 5 (by decide) (by decide) (by decide)), xz_D_t a4 (fun v hv => ev v (by simp only [List.mem_cons, List.not_mem_nil, or_false] at hv; omega) (by simp only [List.mem_cons, List.not_mem_nil, or_false] at hv ⊢; omega)) (fun v _ => by rw [pzv]), fun q h0' h1' => ?_, ⟨fun q => if q = p then G' else Gs q, fun q h0' h1' => ?_, ?_⟩, s7⟩
          · by_cases hqp : q = p
            · subst hqp
              have p20 : (pz_patS e q z').1.2 20 q 0 = 1 := by unfold pz_patS; dsimp only; rw [eh_sA_c (by decide), eh_sA_c (by decide), eh_sA_p]
              have p21 : (pz_patS e q z').1.2 21 q 0 = bz ((pu_come (pz_E z') (pz_P z' q) e (z'.2.1 q)).2.2 = true) := by unfold pz_patS; dsimp only; rw [eh_sA_c (by decide), eh_sA_p]
              have p22 : (pz_patS e q z').1.2 22 q 0 = z'.1.2 22 q 0 + ((pu_come (pz_E z') (pz_P z' q) e (z'.2.1 q)).2.1.length : Int) := by unfold pz_patS; dsimp only; rw [eh_sA_p]
              refine ⟨⟨?_, ?_, ?_, ?_⟩, ⟨?_, ?_, ?_, ?_⟩, ?_⟩
              · rw [ev 400 (by decide) (by decide), pzc 17 (by decide) (by decide) (by decide)]; exact f1
              · rw [ev 401 (by decide) (by decide), pzc 18 (by decide) (by decide) (by decide)]; exact f2
              · rw [ev 402 (by decide) (by decide), pzc 16 (by decide) (by decide) (by decide)]; exact f3
              · rw [ev 403 (by decide) (by decide), pzc 15 (by decide) (by decide) (by decide)]; exact f4
              · rw [s1.1 409 (by decide), h409, if_pos rfl, p20]
              · rw [s9, p21]
              · rw [ev 411 (by decide) (by decide), pzc 19 (by decide) (by decide) (by decide)]; exact g3
              · rw [s8, p22]
              · rw [ec 404 (by decide), ec 405 (by decide), ec 406 (by decide), ec 407 (by decide), ec 408 (by decide), pzc 15 (by decide) (by decide) (by decide), pzc 10 (by decide) (by decide) (by decide), pzc 11 (by decide) (by decide) (by decide), pzc 12 (by decide) (by decide) (by decide), pzc 13 (by decide) (by decide) (by decide), pzc 14 (by decide) (by decide) (by decide)]
                exact d1
            · obtain ⟨o1, o2, o3, o4, o5⟩ := s2 q hqp
              have pq := (pz_patQ (z := z') (e := e) (p := p) hqp).1
              rw [hpS] at pq
              refine xz_F1_t (a5 q h0' h1') (fun v hv => ?_) (fun c hc => by rw [ec c (by simp only [List.mem_cons, List.not_mem_nil, or_false] at hc ⊢; omega)]) (fun c _ _ => pq c)
              by_cases v1 : v = 410
              · rw [v1, o4, hf1.1 410 (by decide)]
              · by_cases v2 : v = 412
                · rw [v2, o5, hf1.1 412 (by decide)]
                · by_cases v3 : v = 409
                  · rw [v3, s1.1 409 (by decide), h409, if_neg hqp]
                  · rw [ev v v3 (by simp only [List.mem_cons, List.not_mem_nil, or_false] at hv ⊢; omega)]
          · by_cases hqp : q = p
            · subst hqp
              dsimp only
              rw [if_pos rfl]
              refine ⟨?_, s3, s4⟩
              rw [hmap]
              unfold pz_patS
              dsimp only
              rw [if_pos rfl]
            · obtain ⟨u1, u2, u3⟩ := hG q h0' h1'
              obtain ⟨o1, o2, o3, o4, o5⟩ := s2 q hqp
              dsimp only
              rw [if_neg hqp]
              have pq := (pz_patQ (z := z') (e := e) (p := p) hqp).2
              rw [hpS] at pq
              refine ⟨by rw [pq]; exact u1, ⟨?_, fun i y hy => ?_⟩, fun y hy => ?_⟩
              · rw [o3, hf1.1 415 (by decide)]; exact u2.1
              · obtain ⟨w1, w2⟩ := u2.2 i y hy
                exact ⟨by rw [o1, hf1.2 413 (by decide)]; exact w1, by rw [o2, hf1.2 414 (by decide)]; exact w2⟩
              · have hqn : ((q.toNat : Nat) : Int) = q := Int.toNat_of_nonneg h0'
                refine s6 y.1 (List.mem_flatMap.mpr ⟨q.toNat, ?_, ?_⟩) _ (xw_way_fr hf1 (by decide) (u3 y hy))
                · exact (List.nodup_range (n := 8)).mem_erase_iff.mpr ⟨by omega, List.mem_range.mpr (by omega)⟩
                · rw [hqn]; exact List.mem_map.mpr ⟨y, hy, rfl⟩
          · have hprm2 := xz_rts_perm (Gs := fun q => if q = p then G' else Gs q) hp8'
            rw [hpn, if_pos rfl] at hprm2
            have hoth : xz_oth (fun q => if q = p then G' else Gs q) p.toNat = xz_oth Gs p.toNat := ls_fm_congr (fun q hq => by
              have := (xz_oth_mem hq).1
              dsimp only
              rw [if_neg (by omega)])
            rw [hoth] at hprm2
            exact xw_I_perm s5 hprm2.symm
      · -- it is spent
        have hpS : pz_pat e p z' = (eh_sA z'.1 20 p 0 1, z'.2) := by unfold pz_pat; rw [pz_if_f h0, pz_if_t hs]
        have hf1 : eh_fr [409] [] σ' (eh_sV σ' 409 p 1) := eh_fr_sV eh_fr_rf (by decide)
        refine nxt _ b _ (by omega) (eh_fr_tr hf (eh_fr_up hf1 (by decide) (by decide))) ?_ (by rw [hf1.1 116 (by decide)]; exact h116)
        rw [hpS]
        have e3 : ∀ c, c ≠ 20 → (eh_sA z'.1 20 p 0 1).2 c = z'.1.2 c := fun c hc => eh_sA_c hc
        refine ⟨xz_A_t a1 rfl (e3 3 (by decide)), xz_B_t a2 (hf1.1 106 (by decide)) (fun _ _ => rfl) rfl (fun c hc => e3 c (by simp only [List.mem_cons, List.not_mem_nil, or_false] at hc; omega)), xz_C_t a3 rfl (e3 5 (by decide)), xz_D_t a4 (fun v hv => hf1.1 v (by simp only [List.mem_cons, List.not_mem_nil, or_false] at hv ⊢; omega)) (fun _ _ => rfl), fun q h0 h1 => ?_, xz_W_t a6 hf1 (by decide) (by decide) rfl, xm_M_fr a7 hf1 (by decide) (by decide)⟩
        by_cases hqp : q = p
        · subst hqp
          refine ⟨⟨?_, ?_, ?_, ?_⟩, ⟨?_, ?_, ?_, ?_⟩, ?_⟩
          · rw [hf1.1 400 (by decide), e3 17 (by decide)]; exact f1
          · rw [hf1.1 401 (by decide), e3 18 (by decide)]; exact f2
          · rw [hf1.1 402 (by decide), e3 16 (by decide)]; exact f3
          · rw [hf1.1 403 (by decide), e3 15 (by decide)]; exact f4
          · show (eh_sV σ' 409 q 1).1 409 q = (eh_sA z'.1 20 q 0 1).2 20 q 0
            rw [eh_sV_p, eh_sA_p]
          · rw [hf1.1 410 (by decide), e3 21 (by decide)]; exact g2
          · rw [hf1.1 411 (by decide), e3 19 (by decide)]; exact g3
          · rw [hf1.1 412 (by decide), e3 22 (by decide)]; exact g4
          · rw [e3 15 (by decide), e3 10 (by decide), e3 11 (by decide), e3 12 (by decide), e3 13 (by decide), e3 14 (by decide)]; exact d1
        · exact xz_F1_t (a5 q h0 h1) (fun v hv => if_neg (fun h => hqp h.2)) (fun _ _ => rfl) (fun c' _ _ => eh_sA_r (fun h => hqp h.2))
  -- the events, one by one
  have key30 : ∀ (k : Nat) (z' : pz_Z) (σ' : eh_S) (c : Int) (b : Nat × Nat) (o3 o4 : Option eh_V), k = (z'.1.1 1 0 - z'.1.1 0 0).toNat → pz_ok0 z' → xz σ' z' → eh_fr pX_V pX_A σ σ' → (b.1 + 3328 * (pz_evs m k z').1.toNat ≤ bd.1 ∧ b.2 + 79872 * (pz_evs m k z').1.toNat ≤ bd.2) → (∀ σ'', eh_fr pX_V pX_A σ σ'' → xz σ'' (pz_evs m k z').2 → K (some (.inl (c + (pz_evs m k z').1))) σ'') → X 30 [some (.inr (some (0, 0))), some (.inl m), some (.inl c), o3, o4] [] σ' b := by
    intro k
    induction k with
    | zero =>
      intro z' σ' c b o3 o4 hk hok hx hf hb hcont
      have hE := hok.1.1
      rw [pz_evs] at hcont
      refine bX0_mark_30 hX (by omega) (fun _ => ?_)
      rw [hx.2.1.1, hx.2.2.2.1.1]
      exact ⟨fun _ => eh_ki (hcont σ' hf hx) (by dsimp only; omega), fun h => by omega⟩
    | succ k ih =>
      intro z' σ' c b o3 o4 hk hok hx hf hb hcont
      have hE := hok.1.1
      have h106 := hx.2.1.1
      have h105 := hx.2.2.2.1.1
      refine bX0_mark_30 hX (by omega) (fun _ => ?_)
      rw [h106, h105, (hx.2.1.2.1 (z'.1.1 0 0) (by omega) (by omega)).2.1]
      rw [pz_evs] at hcont hb
      refine ⟨fun h => by omega, fun _ => ⟨by omega, hm, fun h => ?_, fun h => ⟨by omega, ?_⟩⟩⟩
      · rw [pz_if_f (by omega)] at hcont
        exact eh_ki (hcont σ' hf hx) (by dsimp only; omega)
      · rw [pz_if_t (by omega)] at hcont hb
        dsimp only at hcont hb
        obtain ⟨e1, e2, e3, e4⟩ := pz_ev_ok hok (by omega)
        have e31 : (pz_ev z').1.1 1 0 = z'.1.1 1 0 := by rw [e3 1 (by decide)]
        have hge := (pz_evs_ok (m := m) k (pz_ev z') e1 (by rw [e31, e2]; omega)).2.2.1
        have hnp := hok.1.2.1
        have hf1 : eh_fr [105, 116] [] σ' (eh_sV (eh_sV σ' 105 0 (z'.1.1 0 0 + 1)) 116 0 0) := eh_fr_sV (eh_fr_sV eh_fr_rf (by decide)) (by decide)
        have ev : ∀ v, v ≠ 0 → ((eh_sV z'.1 0 0 (z'.1.1 0 0 + 1), z'.2) : pz_Z).1.1 v = z'.1.1 v := fun v hv => eh_sV_v hv
        have e0 : ((eh_sV z'.1 0 0 (z'.1.1 0 0 + 1), z'.2) : pz_Z).1.1 0 0 = z'.1.1 0 0 + 1 := eh_sV_p
        obtain ⟨a1, a2, a3, a4, a5, a6, a7⟩ := hx
        have hx1 : xz (eh_sV (eh_sV σ' 105 0 (z'.1.1 0 0 + 1)) 116 0 0) (eh_sV z'.1 0 0 (z'.1.1 0 0 + 1), z'.2) := by
          refine ⟨xz_A_t a1 rfl rfl, xz_B_t a2 (hf1.1 106 (by decide)) (fun _ _ => rfl) (ev 1 (by decide)) (fun _ _ => rfl), xz_C_t a3 rfl rfl, ⟨?_, ?_, ?_, ?_⟩, xz_F_t a5 (fun v hv => hf1.1 v (by simp only [List.mem_cons, List.not_mem_nil, or_false] at hv ⊢; omega)) (fun _ _ => rfl) (fun _ _ _ => rfl), xz_W_t a6 hf1 (by decide) (by decide) rfl, xm_M_fr a7 hf1 (by decide) (by decide)⟩
          · rw [eh_sV_v (by decide), eh_sV_p]; exact e0.symm
          · rw [hf1.1 107 (by decide), ev 2 (by decide)]; exact a4.2.1
          · rw [hf1.1 108 (by decide), ev 3 (by decide)]; exact a4.2.2.1
          · rw [hf1.1 118 (by decide), ev 4 (by decide)]; exact a4.2.2.2
        have hm0 : pz_okm (eh_sV z'.1 0 0 (z'.1.1 0 0 + 1), z'.2) 0 := by
          obtain ⟨hE', hP', hM'⟩ := hok
          refine ⟨by rw [e0]; omega, ?_, fun q h0 h8 => ?_, ?_⟩
          · unfold pz_okE0
            rw [e0, ev 1 (by decide), ev 3 (by decide), ev 4 (by decide)]
            exact ⟨by omega, hE'.2.1, hE'.2.2.1, hE'.2.2.2.1, fun i j a b c => hE'.2.2.2.2 i j (by omega) b c⟩
          · obtain ⟨c1, c2, c3, c4, c5, c6, c7, c8, c9, c10⟩ := hP' q h0 h8
            rw [e0, ev 4 (by decide), if_neg (by omega), show z'.1.1 0 0 + 1 - 1 = z'.1.1 0 0 by omega]
            exact ⟨c1, c2, ⟨c3.1, by have := c3.2; show z'.1.2 19 q 0 ≤ z'.1.1 0 0 + 1; omega⟩, c4, c5, c6, c7, c8, c9, c10⟩
          · refine ⟨by rw [e0]; have := hM'.1; dsimp only; omega, fun x hx => ?_⟩
            obtain ⟨b1, b2, b3, b4⟩ := hM'.2 x hx
            refine ⟨b1, b2, b3, fun y hy => ?_⟩
            rw [e0]
            have := b4 y hy
            exact ⟨by omega, this.2⟩
        refine key74 (z'.1.1 4 0).toNat 0 (z'.1.1 0 0) (c + 1) _ _ b _ (Int.le_refl _) (by rw [ev 4 (by decide)]; omega) hm0 hx1 (eh_fr_tr hf (eh_fr_up hf1 (by decide) (by decide))) eh_sV_p (by rw [e0]; omega) (by omega) (fun σ2 b2 o3 o4 hb2 hf2 hx2 => ?_)
        have hx2' : xz σ2 (pz_ev z') := hx2
        refine ih (pz_ev z') σ2 (c + 1) b2 o3 o4 (by rw [e31, e2]; omega) e1 hx2' hf2 (by omega) (fun σ3 hf3 hx3 => eh_ki (hcont σ3 hf3 hx3) (by omega))
  unfold pz_mark at hK hbd
  refine bX0_mark_0 hX (T77 := Tx_within) rfl hzb (fun hok => wi hm (eh_rc (by omega)) (eh_rc (by omega)) ?_)
  refine bX0_mark_7 hX hzb (fun hok => ⟨bz_r _, fun h => ?_, fun h1 => ?_⟩)
  · rw [pz_if_t (bz_0.mp h)] at hK
    exact xk_s hK hz
  · have b1 := bz_n.mp h1
    rw [hz.2.2.2.1.2.2.1]
    rw [pz_if_f (fun h => h b1)] at hK hbd
    refine ⟨hm, fun h => ?_, fun h => ?_⟩
    · rw [pz_if_f (by omega)] at hK hbd
      have hok0 := pz_mark0 ho b1
      have ev : ∀ v, v ≠ 3 → ((eh_sV z.1 3 0 m, z.2) : pz_Z).1.1 v = z.1.1 v := fun v hv => eh_sV_v hv
      obtain ⟨i1, i2, i3, i4, i5, i6⟩ := pz_evs_ok (m := m) (z.1.1 1 0 - z.1.1 0 0).toNat _ hok0 (by rw [ev 0 (by decide), ev 1 (by decide)])
      rw [ev 0 (by decide)] at i2
      rw [i2] at hbd
      have hf1 : eh_fr [108] [] σ (eh_sV σ 108 0 m) := eh_fr_sV eh_fr_rf (by decide)
      obtain ⟨a1, a2, a3, a4, a5, a6, a7⟩ := hz
      refine key30 _ _ _ 0 (0, 0) _ _ (by rw [ev 0 (by decide), ev 1 (by decide)]) hok0 ⟨xz_A_t a1 rfl rfl, xz_B_t a2 (hf1.1 106 (by decide)) (fun _ _ => rfl) (ev 1 (by decide)) (fun _ _ => rfl), xz_C_t a3 rfl rfl, ⟨?_, ?_, ?_, ?_⟩, xz_F_t a5 (fun v hv => hf1.1 v (by simp only [List.mem_cons, List.not_mem_nil, or_false] at hv ⊢; omega)) (fun _ _ => rfl) (fun _ _ _ => rfl), xz_W_t a6 hf1 (by decide) (by decide) rfl, xm_M_fr a7 hf1 (by decide) (by decide)⟩ (eh_fr_up hf1 (by decide) (by decide)) ?_ (fun σ2 hf2 hx2 => eh_ki (hK σ2 hf2 hx2) (by omega))
      · rw [hf1.1 105 (by decide), ev 0 (by decide)]; exact a4.1
      · rw [hf1.1 107 (by decide), ev 2 (by decide)]; exact a4.2.1
      · show (eh_sV σ 108 0 m).1 108 0 = (eh_sV z.1 3 0 m).1 3 0
        rw [eh_sV_p, eh_sV_p]
      · rw [hf1.1 118 (by decide), ev 4 (by decide)]; exact a4.2.2.2
      · rw [show z.1.1 0 0 + (pz_evs m (z.1.1 1 0 - z.1.1 0 0).toNat (eh_sV z.1 3 0 m, z.2)).1 - z.1.1 0 0 = (pz_evs m (z.1.1 1 0 - z.1.1 0 0).toNat (eh_sV z.1 3 0 m, z.2)).1 by omega] at hbd
        dsimp only
        omega
    · rw [pz_if_t (by omega)] at hK
      exact xk_s hK hz
