/-! where both are made: the world of part 15 -/
def e0_s : eh_S := (fun v _ => ec_n v, fun id _ j => if id = 113 ∨ id = 114 then -1 else if (id = 100 ∨ id = 501) ∧ 0 ≤ j ∧ j < 16 then -1 else 0)
def e0_ad (h hM : Nat) (g gw gp a gm : Nat → Nat) (gg : Nat → Nat → Nat) (c : Nat) (i : Int) : Nat := if c = 99 then i.toNat else if c = 0 then h else if c = 1 then g 10 else if c = 2 then g 19 else if c = 3 then a i.toNat else if c = 4 then hM else if c < 200 then g (c - 100) else if c < 300 then gw (c - 200) else if c < 400 then gp (c - 300) else if c < 500 then gg i.toNat (c - 400) else gm (c - 500)
theorem e0_obj {ad : Nat → Int → Nat} {tc : Nat → ClassId} {o g : Nat → Nat} {c h : Nat} {i : Int} (hc : c < 5) (h1 : ad c i = h) (h2 : ∀ k, k < (eh_ft c).length → (eh_ft c).getD k 0 = 2 → ad (100 * (c + 1) + k) i = g k) (h3 : ∀ k, k < (eh_ft c).length → (eh_ft c).getD k 0 = 3 → ec_n (100 * (c + 1) + k) < 0) (h4 : ∀ k n, k < (eh_ft c).length → (eh_ft c).getD k 0 = n + 4 → ad n 0 = o n) : (h, .inr (c, ec_f c (ec_G o c g))) = eh_c ad tc e0_s (c, i) := by
  rw [eh_c_o hc, h1]
  have : ec_f c (ec_G o c g) = (List.range (eh_ft c).length).map (fun k => eh_v ad (eh_fv e0_s c i k)) := by
    unfold ec_f
    apply List.map_congr_left
    intro k hk
    have hk := List.mem_range.mp hk
    unfold ec_G eh_fv
    have e2 := h2 k hk
    have e3 := h3 k hk
    have e4 := fun n => h4 k n hk
    generalize (eh_ft c).getD k 0 = q at e2 e3 e4
    match q with
    | 0 => rfl
    | 1 => rfl
    | 2 => show Value.ref (g k) = .ref (ad _ i); rw [e2 rfl]
    | 3 =>
      show Value.null = eh_v ad (if ec_n (100 * (c + 1) + k) < 0 then .inr none else .inr (some (3, ec_n (100 * (c + 1) + k))))
      rw [if_pos (e3 rfl)]
      rfl
    | n + 4 => show Value.ref (o n) = .ref (ad n 0); rw [e4 n rfl]
  rw [this]
theorem e0_arr {ad : Nat → Int → Nat} {tc : Nat → ClassId} {g : Nat → Nat} {c k : Nat} {i : Int} (ht : (eh_al (100 * (c + 1) + k)).1 < 4) (h1 : ad (100 * (c + 1) + k) i = g k) (h2 : 100 * (c + 1) + k ≠ 113 ∧ 100 * (c + 1) + k ≠ 114) : ec_a tc c g k = eh_c ad tc e0_s (100 * (c + 1) + k, i) := by
  rw [eh_c_a ht, h1]
  unfold ec_a
  have : ec_o (100 * (c + 1) + k) = fun j : Nat => eh_i (e0_s.2 (100 * (c + 1) + k) i j) := by
    funext j
    unfold ec_o e0_s
    dsimp only
    rw [if_neg (show ¬ (100 * (c + 1) + k = 113 ∨ 100 * (c + 1) + k = 114) by omega)]
    by_cases hp : 100 * (c + 1) + k = 100 ∨ 100 * (c + 1) + k = 501
    · rw [if_pos hp]
      unfold ec_p
      by_cases hj : j < 16
      · rw [if_pos hj, if_pos ⟨hp, by omega, by omega⟩]; rfl
      · rw [if_neg hj, if_neg (fun q => hj (by omega))]; rfl
    · rw [if_neg hp, if_neg (fun q => hp q.1)]; rfl
  rw [this]
theorem e0_nd {A : Nat → Prop} {ws : va_W} : va_D A ws ↔ (ws.map Prod.fst).Nodup ∧ ∀ q ∈ ws, A q.1 := by
  constructor
  · intro h
    refine ⟨List.pairwise_iff_getElem.mpr (fun i j hi hj hij he => ?_), eh_DA h⟩
    rw [List.length_map] at hi hj
    rw [List.getElem_map, List.getElem_map] at he
    have := h.1 i j _ _ (List.getElem?_eq_getElem hi) (List.getElem?_eq_getElem hj) he
    omega
  · rintro ⟨h1, h2⟩
    refine ⟨fun i j p q hi hj he => ?_, fun k q hk => h2 q (List.mem_of_getElem? hk)⟩
    obtain ⟨hi1, hi2⟩ := List.getElem?_eq_some_iff.mp hi
    obtain ⟨hj1, hj2⟩ := List.getElem?_eq_some_iff.mp hj
    have h1 := List.pairwise_iff_getElem.mp h1
    have key : ∀ (i j : Nat) (hi : i < ws.length) (hj : j < ws.length), i < j → (ws[i]).1 ≠ (ws[j]).1 := fun i j hi hj hij => by
      have := h1 i j (by rw [List.length_map]; exact hi) (by rw [List.length_map]; exact hj) hij
      rwa [List.getElem_map, List.getElem_map] at this
    rcases Nat.lt_trichotomy i j with h | h | h
    · exact absurd (by rw [hi2, hj2]; exact he) (key i j hi1 hj1 h)
    · exact h
    · exact absurd (by rw [hi2, hj2]; exact he.symm) (key j i hj1 hi1 h)
theorem e0_perm {A : Nat → Prop} {D : va_G} {H : Heap} {ws ws' : va_W} (h : ws.Perm ws') (hP : va_P D eh_cl ws H) (hD : va_D A ws) : va_P D eh_cl ws' H ∧ va_D A ws' := by
  refine ⟨eh_PM.mpr (fun q hq => eh_PM.mp hP q (h.mem_iff.mpr hq)), e0_nd.mpr ?_⟩
  obtain ⟨h1, h2⟩ := e0_nd.mp hD
  exact ⟨(h.map Prod.fst).nodup_iff.mp h1, fun q hq => h2 q (h.mem_iff.mpr hq)⟩
def e0_l1 : List (Nat × Int) := [(0, 0), (100, 0), (101, 0), (102, 0), (103, 0), (104, 0), (109, 0), (1, 0), (200, 0), (201, 0), (202, 0), (203, 0), (111, 0), (112, 0), (113, 0), (114, 0)]
def e0_l2 : List (Nat × Int) := [(2, 0), (300, 0), (301, 0), (120, 0)]
def e0_T : List (Nat × Int) := (List.range 8).flatMap (fun i : Nat => [(3, (i : Int)), (404, (i : Int)), (405, (i : Int)), (406, (i : Int)), (407, (i : Int)), (408, (i : Int)), (413, (i : Int)), (414, (i : Int))])
def e0_M : List (Nat × Int) := (4, 0) :: ec_k4.map (fun k : Nat => (100 * (4 + 1) + k, (0 : Int)))
def e0_N : List (Nat × Int) := e0_l1 ++ (117, 0) :: (e0_l2 ++ e0_T) ++ e0_M
theorem e0_N_perm : e0_N.Perm eh_LF := by decide +kernel
theorem e0_LX : eh_LX e0_s = eh_LF := by
  unfold eh_LX
  have h10 : (e0_s.1 10 0).toNat = 0 := by decide
  have h11 : (e0_s.1 11 0).toNat = 0 := by decide
  rw [h10, h11]
  simp
theorem e0_ok : eh_ok e0_s := by
  refine ⟨fun v i => ?_, fun c i j _ _ _ _ => ?_⟩
  · show eh_r (ec_n v)
    unfold ec_n
    split <;> exact eh_rc (by omega)
  · show eh_r (if c = 113 ∨ c = 114 then -1 else if (c = 100 ∨ c = 501) ∧ 0 ≤ j ∧ j < 16 then -1 else 0)
    split
    · exact eh_rc (by omega)
    · split <;> exact eh_rc (by omega)
section E0W
variable {tc : Nat → ClassId} {h hM : Nat} {g gw gp a gm : Nat → Nat} {gg : Nat → Nat → Nat}
theorem e0_w1 : ec_l1 tc h g gw 16 = e0_l1.map (eh_c (e0_ad h hM g gw gp a gm gg) tc e0_s) := by
  have c0 : (h, .inr (0, ec_f 0 (ec_G (fun j => if j = 1 then g 10 else g 19) 0 g))) = eh_c (e0_ad h hM g gw gp a gm gg) tc e0_s (0, 0) := e0_obj (by decide) rfl (fun k hk _ => by
      have hk : k < 21 := hk
      unfold e0_ad
      rw [if_neg (by omega), if_neg (by omega), if_neg (by omega), if_neg (by omega), if_neg (by omega), if_neg (by omega), if_pos (by omega), show 100 * (0 + 1) + k - 100 = k by omega]) (by decide +kernel) (fun k n hk hq => by
      have key : ∀ k, k < 21 → (eh_ft 0).getD k 0 < 4 ∨ (eh_ft 0).getD k 0 = 5 ∨ (eh_ft 0).getD k 0 = 6 := by decide +kernel
      rcases key k hk with h | h | h
      · omega
      · have : n = 1 := by omega
        subst this; rfl
      · have : n = 2 := by omega
        subst this; rfl)
  have c1 : (g 10, .inr (1, ec_f 1 (ec_G (fun _ => 0) 1 gw))) = eh_c (e0_ad h hM g gw gp a gm gg) tc e0_s (1, 0) := e0_obj (by decide) rfl (fun k hk _ => by
      have hk : k < 6 := hk
      unfold e0_ad
      rw [if_neg (by omega), if_neg (by omega), if_neg (by omega), if_neg (by omega), if_neg (by omega), if_neg (by omega), if_neg (by omega), if_pos (by omega), show 100 * (1 + 1) + k - 200 = k by omega]) (by decide +kernel) (fun k n hk hq => by
      have key : ∀ k, k < 6 → (eh_ft 1).getD k 0 < 4 := by decide +kernel
      have := key k hk
      omega)
  have q13 : (g 13, .inl (tc 4, 1000, .inr (.inr (.inr (.inr (fun _ => none)))))) = eh_c (e0_ad h hM g gw gp a gm gg) tc e0_s (113, 0) := by
    rw [eh_c_q (by decide) (by decide)]
    rfl
  have q14 : (g 14, .inl (tc 5, 1000, .inr (.inr (.inr (.inr (fun _ => none)))))) = eh_c (e0_ad h hM g gw gp a gm gg) tc e0_s (114, 0) := by
    rw [eh_c_q (by decide) (by decide)]
    rfl
  have ar : ∀ k, (eh_al (100 * (0 + 1) + k)).1 < 4 → k < 100 → k ≠ 13 ∧ k ≠ 14 → ec_a tc 0 g k = eh_c (e0_ad h hM g gw gp a gm gg) tc e0_s (100 * (0 + 1) + k, 0) := fun k h1 h2 h3 => e0_arr h1 (by
      unfold e0_ad
      rw [if_neg (by omega), if_neg (by omega), if_neg (by omega), if_neg (by omega), if_neg (by omega), if_neg (by omega), if_pos (by omega), show 100 * (0 + 1) + k - 100 = k by omega]) (by omega)
  have aw : ∀ k, (eh_al (100 * (1 + 1) + k)).1 < 4 → k < 100 → ec_a tc 1 gw k = eh_c (e0_ad h hM g gw gp a gm gg) tc e0_s (100 * (1 + 1) + k, 0) := fun k h1 h2 => e0_arr h1 (by
      unfold e0_ad
      rw [if_neg (by omega), if_neg (by omega), if_neg (by omega), if_neg (by omega), if_neg (by omega), if_neg (by omega), if_neg (by omega), if_pos (by omega), show 100 * (1 + 1) + k - 200 = k by omega]) (by omega)
  have e : ec_l1 tc h g gw 16 = [(h, .inr (0, ec_f 0 (ec_G (fun j => if j = 1 then g 10 else g 19) 0 g))), ec_a tc 0 g 0, ec_a tc 0 g 1, ec_a tc 0 g 2, ec_a tc 0 g 3, ec_a tc 0 g 4, ec_a tc 0 g 9, (g 10, .inr (1, ec_f 1 (ec_G (fun _ => 0) 1 gw))), ec_a tc 1 gw 0, ec_a tc 1 gw 1, ec_a tc 1 gw 2, ec_a tc 1 gw 3, ec_a tc 0 g 11, ec_a tc 0 g 12, (g 13, .inl (tc 4, 1000, .inr (.inr (.inr (.inr (fun _ => none)))))), (g 14, .inl (tc 5, 1000, .inr (.inr (.inr (.inr (fun _ => none))))))] := rfl
  rw [e, c0, c1, q13, q14, ar 0 (by decide) (by decide) (by decide), ar 1 (by decide) (by decide) (by decide), ar 2 (by decide) (by decide) (by decide), ar 3 (by decide) (by decide) (by decide), ar 4 (by decide) (by decide) (by decide), ar 9 (by decide) (by decide) (by decide), ar 11 (by decide) (by decide) (by decide), ar 12 (by decide) (by decide) (by decide), aw 0 (by decide) (by decide), aw 1 (by decide) (by decide), aw 2 (by decide) (by decide), aw 3 (by decide) (by decide)]
  rfl
theorem e0_w2 : ec_l2 tc h g gp = e0_l2.map (eh_c (e0_ad h hM g gw gp a gm gg) tc e0_s) := by
  have c2 : (g 19, .inr (2, ec_f 2 (ec_G (fun _ => h) 2 gp))) = eh_c (e0_ad h hM g gw gp a gm gg) tc e0_s (2, 0) := e0_obj (by decide) rfl (fun k hk _ => by
      have hk : k < 5 := hk
      unfold e0_ad
      rw [if_neg (by omega), if_neg (by omega), if_neg (by omega), if_neg (by omega), if_neg (by omega), if_neg (by omega), if_neg (by omega), if_neg (by omega), if_pos (by omega), show 100 * (2 + 1) + k - 300 = k by omega]) (by decide +kernel) (fun k n hk hq => by
      have key : ∀ k, k < 5 → (eh_ft 2).getD k 0 < 4 ∨ (eh_ft 2).getD k 0 = 4 := by decide +kernel
      rcases key k hk with h | h
      · omega
      · have : n = 0 := by omega
        subst this; rfl)
  have ar : ∀ k, (eh_al (100 * (2 + 1) + k)).1 < 4 → k < 100 → ec_a tc 2 gp k = eh_c (e0_ad h hM g gw gp a gm gg) tc e0_s (100 * (2 + 1) + k, 0) := fun k h1 h2 => e0_arr h1 (by
      unfold e0_ad
      rw [if_neg (by omega), if_neg (by omega), if_neg (by omega), if_neg (by omega), if_neg (by omega), if_neg (by omega), if_neg (by omega), if_neg (by omega), if_pos (by omega), show 100 * (2 + 1) + k - 300 = k by omega]) (by omega)
  have a20 : ec_a tc 0 g 20 = eh_c (e0_ad h hM g gw gp a gm gg) tc e0_s (100 * (0 + 1) + 20, 0) := e0_arr (by decide) rfl (by decide)
  have e : ec_l2 tc h g gp = [(g 19, .inr (2, ec_f 2 (ec_G (fun _ => h) 2 gp))), ec_a tc 2 gp 0, ec_a tc 2 gp 1, ec_a tc 0 g 20] := rfl
  rw [e, c2, a20, ar 0 (by decide) (by decide), ar 1 (by decide) (by decide)]
  rfl
theorem e0_wT : ec_T tc h a gg 8 = e0_T.map (eh_c (e0_ad h hM g gw gp a gm gg) tc e0_s) := by
  unfold ec_T e0_T
  rw [List.map_flatMap]
  refine ls_fm_congr (fun j hj => ?_)
  have hj := List.mem_range.mp hj
  have c3 : (a j, .inr (3, ec_f 3 (ec_G (fun _ => h) 3 (gg j)))) = eh_c (e0_ad h hM g gw gp a gm gg) tc e0_s (3, (j : Int)) := e0_obj (by decide) rfl (fun k hk _ => by
      have hk : k < 17 := hk
      unfold e0_ad
      rw [if_neg (by omega), if_neg (by omega), if_neg (by omega), if_neg (by omega), if_neg (by omega), if_neg (by omega), if_neg (by omega), if_neg (by omega), if_neg (by omega), if_pos (by omega), show 100 * (3 + 1) + k - 400 = k by omega, Int.toNat_natCast]) (by decide +kernel) (fun k n hk hq => by
      have key : ∀ k, k < 17 → (eh_ft 3).getD k 0 < 4 ∨ (eh_ft 3).getD k 0 = 4 := by decide +kernel
      rcases key k hk with h | h
      · omega
      · have : n = 0 := by omega
        subst this; rfl)
  have ar : ∀ k, (eh_al (100 * (3 + 1) + k)).1 < 4 → k < 100 → ec_a tc 3 (gg j) k = eh_c (e0_ad h hM g gw gp a gm gg) tc e0_s (100 * (3 + 1) + k, (j : Int)) := fun k h1 h2 => e0_arr h1 (by
      unfold e0_ad
      rw [if_neg (by omega), if_neg (by omega), if_neg (by omega), if_neg (by omega), if_neg (by omega), if_neg (by omega), if_neg (by omega), if_neg (by omega), if_neg (by omega), if_pos (by omega), show 100 * (3 + 1) + k - 400 = k by omega, Int.toNat_natCast]) (by omega)
  have e : ec_W tc (fun _ => h) 3 (a j) (gg j) [4, 5, 6, 7, 8, 13, 14] = [(a j, .inr (3, ec_f 3 (ec_G (fun _ => h) 3 (gg j)))), ec_a tc 3 (gg j) 4, ec_a tc 3 (gg j) 5, ec_a tc 3 (gg j) 6, ec_a tc 3 (gg j) 7, ec_a tc 3 (gg j) 8, ec_a tc 3 (gg j) 13, ec_a tc 3 (gg j) 14] := rfl
  rw [e, c3, ar 4 (by decide) (by decide), ar 5 (by decide) (by decide), ar 6 (by decide) (by decide), ar 7 (by decide) (by decide), ar 8 (by decide) (by decide), ar 13 (by decide) (by decide), ar 14 (by decide) (by decide)]
  rfl
theorem e0_wM : ec_W tc (fun _ => 0) 4 hM gm ec_k4 = e0_M.map (eh_c (e0_ad h hM g gw gp a gm gg) tc e0_s) := by
  have c4 : (hM, .inr (4, ec_f 4 (ec_G (fun _ => 0) 4 gm))) = eh_c (e0_ad h hM g gw gp a gm gg) tc e0_s (4, 0) := e0_obj (by decide) rfl (fun k hk _ => by
      have hk : k < 48 := hk
      unfold e0_ad
      rw [if_neg (by omega), if_neg (by omega), if_neg (by omega), if_neg (by omega), if_neg (by omega), if_neg (by omega), if_neg (by omega), if_neg (by omega), if_neg (by omega), if_neg (by omega), show 100 * (4 + 1) + k - 500 = k by omega]) (by decide +kernel) (fun k n hk hq => by
      have key : ∀ k, k < 48 → (eh_ft 4).getD k 0 < 4 := by decide +kernel
      have := key k hk
      omega)
  have key : ∀ k ∈ ec_k4, (eh_al (100 * (4 + 1) + k)).1 < 4 := by decide +kernel
  have key2 : ∀ l : List Nat, (∀ k ∈ l, (eh_al (100 * (4 + 1) + k)).1 < 4) → l.map (ec_a tc 4 gm) = (l.map (fun k : Nat => (100 * (4 + 1) + k, (0 : Int)))).map (eh_c (e0_ad h hM g gw gp a gm gg) tc e0_s) := by
    intro l hl
    rw [List.map_map]
    apply List.map_congr_left
    intro k hk
    exact e0_arr (hl k hk) (by
      unfold e0_ad
      rw [if_neg (by omega), if_neg (by omega), if_neg (by omega), if_neg (by omega), if_neg (by omega), if_neg (by omega), if_neg (by omega), if_neg (by omega), if_neg (by omega), if_neg (by omega), show 100 * (4 + 1) + k - 500 = k by omega]) (by omega)
  exact congr (congrArg List.cons c4) (key2 ec_k4 key)
theorem e0_world : (ec_xw tc h g gw gp a gg 16 8 ++ ec_W tc (fun _ => 0) 4 hM gm ec_k4).Perm (eh_w (e0_ad h hM g gw gp a gm gg) tc eh_LX e0_s) := by
  have q17 : (g 17, .inl (tc 6, 8, .inr (.inr (.inr (.inr (ec_r a 8)))))) = eh_c (e0_ad h hM g gw gp a gm gg) tc e0_s (117, 0) := by
    rw [eh_c_q (by decide) (by decide)]
    rfl
  have e : ec_xw tc h g gw gp a gg 16 8 ++ ec_W tc (fun _ => 0) 4 hM gm ec_k4 = e0_N.map (eh_c (e0_ad h hM g gw gp a gm gg) tc e0_s) := by
    unfold ec_xw e0_N
    rw [e0_w1 (hM := hM) (gp := gp) (a := a) (gm := gm) (gg := gg), e0_w2 (hM := hM) (gw := gw) (a := a) (gm := gm) (gg := gg), e0_wT (hM := hM) (g := g) (gw := gw) (gp := gp) (gm := gm), e0_wM (h := h) (g := g) (gw := gw) (gp := gp) (a := a) (gg := gg), q17]
    simp only [List.map_append, List.map_cons]
  rw [e]
  unfold eh_w
  rw [e0_LX]
  exact e0_N_perm.map _
end E0W
