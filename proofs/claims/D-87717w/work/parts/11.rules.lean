/-! the rules hold at the machine -/
def eh_world (nm : Nat → Nat) (NL : eh_S → List (Nat × Int)) (ad : Nat → Int → Nat) : Prop :=
  (∀ (σ : eh_S) (c : Nat) (i : Int), 0 ≤ i → i < nm c → (c, i) ∈ NL σ) ∧
  (∀ σ σ' : eh_S, σ'.1 10 0 = σ.1 10 0 → σ'.1 11 0 = σ.1 11 0 → NL σ' = NL σ) ∧
  (nm 0 = 1 → (∀ (σ : eh_S) (j : Int), 0 ≤ j → j < σ.1 10 0 → (10, j) ∈ NL σ) ∧ (∀ (σ : eh_S) (j : Int), 0 ≤ j → j < σ.1 11 0 → (11, j) ∈ NL σ) ∧
    (∀ σ σ' : eh_S, 0 ≤ σ.1 10 0 → σ'.1 10 0 = σ.1 10 0 + 1 → σ'.1 11 0 = σ.1 11 0 → ∃ l1 l2, NL σ = l1 ++ l2 ∧ NL σ' = l1 ++ (10, σ.1 10 0) :: l2) ∧
    (∀ σ σ' : eh_S, 0 ≤ σ.1 11 0 → σ'.1 11 0 = σ.1 11 0 + 1 → σ'.1 10 0 = σ.1 10 0 → ∃ l1 l2, NL σ = l1 ++ l2 ∧ NL σ' = l1 ++ (11, σ.1 11 0) :: l2)) ∧
  (∀ (σ : eh_S) (n : Nat × Int), n ∈ NL σ → (n.1 ≠ 12 ∧ n.1 ≠ 13 ∧ n.1 ≠ 14 ∧ n.1 ≠ 15) ∧ (n.1 = 10 → n.2 < σ.1 10 0) ∧ (n.1 = 11 → n.2 < σ.1 11 0)) ∧
  ∀ a : Int, ad 99 a = a.toNat
theorem eh_fv_g {σ σ' : eh_S} (h : ∀ v, 100 ≤ v → σ'.1 v = σ.1 v) (c : Nat) (i : Int) (k : Nat) : eh_fv σ' c i k = eh_fv σ c i k := by
  unfold eh_fv
  rw [h (100 * (c + 1) + k) (by omega)]
/-- a new row: the other cells stay -/
theorem eh_c_new {ad : Nat → Int → Nat} {tc : Nat → ClassId} {σ σ' : eh_S} (h1 : ∀ v, 100 ≤ v → σ'.1 v = σ.1 v) (h2 : ∀ c, 16 ≤ c → σ'.2 c = σ.2 c) {n : Nat × Int} (h12 : n.1 ≠ 12 ∧ n.1 ≠ 13 ∧ n.1 ≠ 14 ∧ n.1 ≠ 15) (ha : n.1 = 10 → σ'.2 12 0 n.2 = σ.2 12 0 n.2 ∧ σ'.2 14 0 n.2 = σ.2 14 0 n.2 ∧ σ'.2 10 n.2 = σ.2 10 n.2) (hb : n.1 = 11 → σ'.2 13 0 n.2 = σ.2 13 0 n.2 ∧ σ'.2 15 0 n.2 = σ.2 15 0 n.2 ∧ σ'.2 11 n.2 = σ.2 11 n.2) (hc : ∀ c, 5 ≤ c → c < 10 → σ'.2 c = σ.2 c) : eh_c ad tc σ' n = eh_c ad tc σ n := by
  obtain ⟨c', i'⟩ := n
  by_cases h5 : c' < 5
  · rw [eh_c_o h5, eh_c_o h5]
    have hm : (fun k => eh_v ad (eh_fv σ' c' i' k)) = (fun k => eh_v ad (eh_fv σ c' i' k)) := by
      funext k
      rw [eh_fv_g h1]
    rw [hm]
  · by_cases h10 : c' = 10
    · subst h10
      obtain ⟨e1, e2, e3⟩ := ha rfl
      rw [eh_c_10, eh_c_10, e1, e2, e3]
    · by_cases h11 : c' = 11
      · subst h11
        obtain ⟨e1, e2, e3⟩ := hb rfl
        rw [eh_c_11, eh_c_11, e1, e2, e3]
      · have he : σ'.2 c' = σ.2 c' := by
          by_cases h16 : 16 ≤ c'
          · exact h2 c' h16
          · obtain ⟨a1, a2, a3, a4⟩ := h12
            dsimp only at a1 a2 a3 a4
            exact hc c' (by omega) (by omega)
        rw [eh_c_r h5 h10 h11, eh_c_r h5 h10 h11, he]
        have hq : (fun j => eh_q ad σ' c' i' j) = (fun j => eh_q ad σ c' i' j) := by
          funext j
          exact eh_q_c (by rw [he]) j
        rw [hq]
section EHR
variable {p : Program} {l : Launch} {e : Env} {R : Room} {s : State} {m : MethodId} {args : Array Value} {below : List Frame} {meth : Method} {c : Code}
variable {D : va_G} {tc : Nat → ClassId} {ad : Nat → Int → Nat} {NL : eh_S → List (Nat × Int)} {nm : Nat → Nat} {A : Nat → Prop} {nL : Nat} {cc : ByteArray} {Q : State → Prop}
variable {pc : Nat} {H : Heap} {locs : List Loc} {la : Array Slot} {σ : eh_S} {st : List eh_V} {cells slots : Nat}
theorem eh_getfield (hx : p.tables.exec = Jvm.exec) (hb : c.code = cc) {own : String} (hown : s.vm.findClass own = some m.cls) (hts : ∀ w ∈ lw_all, w.before args s = true) (hK : eh_K D tc s) (hP : va_P D eh_cl (eh_w ad tc NL σ) H) {k f c0 : Nat} {i0 : Int} (hf : eh_fok own k c0 f) (hn : (c0, i0) ∈ NL σ) (hd : decode cc pc = .ok (.getfield k, 3))
    (kk : W p l e R s m args below meth c H locs cells slots Q (F0 m (pc + 3) la (eh_v ad (eh_fv σ c0 i0 f) :: st.map (eh_v ad)))) : W p l e R s m args below meth c H locs cells slots Q (F0 m pc la (.ref (ad c0 i0) :: st.map (eh_v ad))) := by
  obtain ⟨hc5, hf⟩ := hf
  obtain ⟨C, T, N, ty, hcl, hN, hty, hnm, hin, -⟩ := eh_coks hc5
  obtain ⟨hfN, hlk⟩ := hf C T N hcl
  obtain ⟨q0, -, hq⟩ := eh_w_at (ad := ad) (tc := tc) hn
  rw [eh_c_o hc5] at hq
  have hv : ((List.range (eh_ft c0).length).map (fun k => eh_v ad (eh_fv σ c0 i0 k)))[f]? = some (eh_v ad (eh_fv σ c0 i0 f)) := by
    rw [List.getElem?_map, List.getElem?_range (by rw [hN]; exact hfN)]
    rfl
  rcases hlk with h1 | h1
  · exact va_get hx hb hts hin hown hK.1 hP q0 hq hcl f hfN (hts _ h1) (fun _ h => h) hv hd kk
  · exact va_getN hx hb hts hin hown hK.1 hP q0 hq hcl f hfN (va_Nw.use rfl (hK.2.2.2.1 _ h1)) (fun _ h => h) hv hd kk
theorem eh_putfield (hx : p.tables.exec = Jvm.exec) (hb : c.code = cc) {own : String} (hown : s.vm.findClass own = some m.cls) (hts : ∀ w ∈ lw_all, w.before args s = true) (hK : eh_K D tc s) (hP : va_P D eh_cl (eh_w ad tc NL σ) H) (hD : va_D A (eh_w ad tc NL σ)) (hS : va_S A s.heap H locs) {k f c0 : Nat} {i0 z : Int} {v : eh_V} (hf : eh_fok own k c0 f) (hn : (c0, i0) ∈ NL σ)
    (hN : ∀ σ σ' : eh_S, σ'.1 10 0 = σ.1 10 0 → σ'.1 11 0 = σ.1 11 0 → NL σ' = NL σ)
    (hft : ((eh_ft c0).getD f 9 = 0 ∧ ∃ y, eh_v ad v = .int y) ∨ ((eh_ft c0).getD f 9 = 1 ∧ narrow .boolean (eh_v ad v) = eh_v ad v ∧ fits .boolean (eh_v ad v) = true) ∨ ((eh_ft c0).getD f 9 = 3 ∧ ∃ y, eh_v ad v = .ref y))
    (hv : eh_v ad (eh_fv (eh_sV σ (100 * (c0 + 1) + f) i0 z) c0 i0 f) = eh_v ad v) (hd : decode cc pc = .ok (.putfield k, 3))
    (kk : ∀ (H1 : Heap) (locs1 : List Loc), va_P D eh_cl (eh_w ad tc NL (eh_sV σ (100 * (c0 + 1) + f) i0 z)) H1 → va_D A (eh_w ad tc NL (eh_sV σ (100 * (c0 + 1) + f) i0 z)) → va_S A s.heap H1 locs1 → W p l e R s m args below meth c H1 locs1 cells slots Q (F0 m (pc + 3) la (st.map (eh_v ad)))) : W p l e R s m args below meth c H locs cells slots Q (F0 m pc la (eh_v ad v :: .ref (ad c0 i0) :: st.map (eh_v ad))) := by
  obtain ⟨hc5, hf⟩ := hf
  obtain ⟨C, T, N, ty, hcl, hNl, hty, hnm, hin, htt⟩ := eh_coks hc5
  obtain ⟨hfN, hlk⟩ := hf C T N hcl
  obtain ⟨q0, hq0, hq⟩ := eh_w_at (ad := ad) (tc := tc) hn
  rw [eh_c_o hc5] at hq
  have hfl : f < (eh_ft c0).length := by rw [hNl]; exact hfN
  have hNL : NL (eh_sV σ (100 * (c0 + 1) + f) i0 z) = NL σ := hN _ _ (by rw [eh_sV_v (by omega)]) (by rw [eh_sV_v (by omega)])
  obtain ⟨t0, t1, t3⟩ := htt f hfN
  have hall : ∃ tyv, parseFieldDescriptor (T f).2.2.1 = some tyv ∧ narrow tyv (eh_v ad v) = eh_v ad v ∧ fits tyv (eh_v ad v) = true ∧ (T f).2.2.2 = false := by
    rcases hft with ⟨h1, y, hy⟩ | ⟨h1, h2, h3⟩ | ⟨h1, y, hy⟩
    · exact ⟨.int, by rw [hty f hfN, (t0 h1).1], by rw [hy]; rfl, by rw [hy]; rfl, (t0 h1).2⟩
    · exact ⟨.boolean, by rw [hty f hfN, (t1 h1).1], h2, h3, (t1 h1).2⟩
    · exact ⟨.object "EventHunter$Pattern", by rw [hty f hfN, (t3 h1).1], by rw [hy]; rfl, by rw [hy]; rfl, (t3 h1).2⟩
  obtain ⟨tyv, hpd, hnar, hfit, hfin⟩ := hall
  have kk' : ∀ (H1 : Heap) (locs1 : List Loc), va_P D eh_cl ((eh_w ad tc NL σ).set q0 (ad c0 i0, .inr (c0, ((List.range (eh_ft c0).length).map (fun k => eh_v ad (eh_fv σ c0 i0 k))).set f (eh_v ad v)))) H1 → va_D A ((eh_w ad tc NL σ).set q0 (ad c0 i0, .inr (c0, ((List.range (eh_ft c0).length).map (fun k => eh_v ad (eh_fv σ c0 i0 k))).set f (eh_v ad v)))) → va_S A s.heap H1 locs1 → W p l e R s m args below meth c H1 locs1 cells slots Q (F0 m (pc + 3) la (st.map (eh_v ad))) := by
    intro H1 locs1 hP1 hD1 hS1
    obtain ⟨hP2, hD2⟩ := eh_put hq0 hNL hD (eh_c_sV hfl) (by rw [eh_c_sVs hc5 hfl, hv]) hP1 hD1
    exact kk H1 locs1 hP2 hD2 hS1
  rcases hlk with h1 | h1
  · exact va_put hx hb hts hin ty hty hnm hown hK.1 hP hD hS q0 hq hcl f hfN (hts _ h1) (fun _ h => h) hfin hpd hnar hfit (by simpa using hfl) hd kk'
  · exact va_putN hx hb hts hin ty hty hnm hown hK.1 hP hD hS q0 hq hcl f hfN (va_Nw.use rfl (hK.2.2.2.1 _ h1)) (fun _ h => h) hfin hpd hnar hfit (by simpa using hfl) hd kk'
theorem eh_rd {z : Int} {n : Nat} (h : 0 ≤ z ∧ z < n) (hn : n < 2147483648) : (((eh_i z).toNatClampNeg : Nat) : Int) = z := by
  rw [eh_i_cl h.1 (by omega), Int.toNat_of_nonneg h.1]
theorem eh_alloc {σ' : eh_S} {n0 : Nat × Int} {l1 l2 : List (Nat × Int)} (hN : NL σ = l1 ++ l2) (hN' : NL σ' = l1 ++ n0 :: l2) (hsame : ∀ n ∈ NL σ, eh_c ad tc σ' n = eh_c ad tc σ n) {H' : Heap} (hP : va_P D eh_cl (eh_w ad tc NL σ) H) (hD : va_D A (eh_w ad tc NL σ)) (hS : va_S A s.heap H locs) (hA : ∀ q, s.heap.size ≤ q → A q) (e1 : va_at D eh_cl (eh_c ad tc σ' n0) H') (ea : (eh_c ad tc σ' n0).1 = H.size) (z1 : H'.size = H.size + 1) (o1 : ∀ q, q < H.size → H'[q]? = H[q]?) : va_P D eh_cl (eh_w ad tc NL σ') H' ∧ va_D A (eh_w ad tc NL σ') ∧ va_S A s.heap H' locs := by
  have hlt : ∀ q ∈ eh_w ad tc NL σ, q.1 < H.size := fun q hq => (eh_PM.mp hP q hq).lt
  have hw : eh_w ad tc NL σ = l1.map (eh_c ad tc σ) ++ l2.map (eh_c ad tc σ) := by
    unfold eh_w
    rw [hN, List.map_append]
  have e1' : l1.map (eh_c ad tc σ') = l1.map (eh_c ad tc σ) := List.map_congr_left (fun n hn => hsame n (by rw [hN]; exact List.mem_append_left _ hn))
  have e2' : l2.map (eh_c ad tc σ') = l2.map (eh_c ad tc σ) := List.map_congr_left (fun n hn => hsame n (by rw [hN]; exact List.mem_append_right _ hn))
  have hw' : eh_w ad tc NL σ' = l1.map (eh_c ad tc σ) ++ eh_c ad tc σ' n0 :: l2.map (eh_c ad tc σ) := by
    unfold eh_w
    rw [hN', List.map_append, List.map_cons, e1', e2']
  rw [hw']
  rw [hw] at hlt hD
  refine ⟨eh_PM.mpr (fun q hq => ?_), eh_insD hD (fun q hq => ?_) ?_, ?_⟩
  · rcases List.mem_append.mp hq with h | h
    · have hm : q ∈ eh_w ad tc NL σ := by rw [hw]; exact List.mem_append_left _ h
      exact (eh_PM.mp hP q hm).kept (o1 q.1 (hlt q (List.mem_append_left _ h)))
    · rcases List.mem_cons.mp h with h | h
      · rw [h]; exact e1
      · have hm : q ∈ eh_w ad tc NL σ := by rw [hw]; exact List.mem_append_right _ h
        exact (eh_PM.mp hP q hm).kept (o1 q.1 (hlt q (List.mem_append_right _ h)))
  · have := hlt q hq
    rw [ea]
    omega
  · rw [ea]
    exact hA _ hS.1
  · exact ⟨Nat.le_trans hS.1 (by omega), fun x h1 h2 => (o1 x (Nat.lt_of_lt_of_le h1 hS.1)).trans (hS.2.1 x h1 h2), hS.2.2⟩
/-- a reference out of an array of arrays -/
theorem eh_aald2 (hx : p.tables.exec = Jvm.exec) (hb : c.code = cc) {q0 a n : Nat} {cA : ClassId} {ty : FieldType} {f : Nat → Option Nat} {ws : va_W} (hAr : ArrOfT s cA ty) (hty : ty.isReference = true) (hP : va_P D eh_cl ws H) (hq : ws[q0]? = some (a, .inl (cA, n, .inr (.inr (.inr (.inr f)))))) {i : Int32} (hin : vp_in i n) {rest : List Value} (hd : decode cc pc = .ok (.aaload, 1))
    (kk : W p l e R s m args below meth c H locs cells slots Q (F0 m (pc + 1) la (va_rf (f i.toNatClampNeg) :: rest))) : W p l e R s m args below meth c H locs cells slots Q (F0 m pc la (.int i :: .ref a :: rest)) := by
  have hlt : i.toNatClampNeg < n := Nat.not_le.mp fun q => hin (Or.inr q)
  exact W.aald (v := va_rf (f i.toNatClampNeg)) (ty := ty) hx hb (hP q0 _ hq) (hAr n (fun j => va_rf (f j))) hty (fun q => by cases q) (by show ¬ (i < 0 ∨ (arrV _ _ _).slots.size ≤ _); rw [arrV_size]; exact hin) (by show (arrV _ _ _).slots[_]? = _; rw [arrV_read _ _ hlt]) rfl rfl hd kk
/-- a row into an array of arrays -/
theorem eh_aast2 (hx : p.tables.exec = Jvm.exec) (hb : c.code = cc) {q0 q1 a v n n1 : Nat} {cA cE : ClassId} {t : FieldType} {f : Nat → Option Nat} {g : Nat → Int32} {ws : va_W} {k kc : Class} (hk : s.vm.classes[cA]? = some k) (hkind : k.kind = .array cE t) (href : t.isReference = true) (hkc : s.vm.classes[cE]? = some kc) (hP : va_P D eh_cl ws H) (hD : va_D A ws) (hS : va_S A s.heap H locs) (hq : ws[q0]? = some (a, .inl (cA, n, .inr (.inr (.inr (.inr f)))))) (hq1 : ws[q1]? = some (v, .inl (cE, n1, .inl g))) {i : Int32} (hin : vp_in i n) {rest : List Value} (hd : decode cc pc = .ok (.aastore, 1))
    (kk : ∀ (H1 : Heap) (locs1 : List Loc), va_P D eh_cl (ws.set q0 (a, .inl (cA, n, .inr (.inr (.inr (.inr (va_up f i.toNatClampNeg (some v)))))))) H1 → va_D A (ws.set q0 (a, .inl (cA, n, .inr (.inr (.inr (.inr (va_up f i.toNatClampNeg (some v)))))))) → va_S A s.heap H1 locs1 → W p l e R s m args below meth c H1 locs1 cells slots Q (F0 m (pc + 1) la rest)) : W p l e R s m args below meth c H locs cells slots Q (F0 m pc la (.ref v :: .int i :: .ref a :: rest)) := by
  have hlt : i.toNatClampNeg < n := Nat.not_le.mp fun q => hin (Or.inr q)
  have h0 : ¬ i < 0 := fun q => hin (Or.inl q)
  refine W.aast (cell := vp_cell cA (n, .inr (.inr (.inr (.inr f))))) (cv := vp_cell cE (n1, .inl g)) (k := k) (kv := kc) (kcomp := kc) (comp := cE) (t := t) hx hb (hP q0 _ hq) (fun q h => by cases h) (fun h => by cases h) hk hkind href hkc ⟨h0, by show _ < (arrV _ _ _).slots.size; rw [arrV_size]; exact hlt⟩ (hP q1 _ hq1) (fun q h => by cases h) hkc (by show s.vm.assignableAux (255 + 1) cE cE = true; rw [Vm.assignableAux]; simp only [beq_self_eq_true, Bool.true_or]) rfl rfl hd fun H1 e1 z1 o1 => ?_
  refine kk H1 _ (hP.set hD hq ?_ o1) (hD.set hq) (hS.put z1 o1 (hD.2 q0 _ hq))
  show H1[a]? = some (vp_cell _ _)
  rw [e1, vp_cell_q, vp_cell_q, arrV_store]
  congr 2
  funext j
  unfold updV va_up
  split <;> rfl
end EHR
