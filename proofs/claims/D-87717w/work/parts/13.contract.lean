/-! contracts by transformers -/
def eh_B (D : va_G) (tc : Nat → ClassId) (ad : Nat → Int → Nat) (NL : eh_S → List (Nat × Int)) (σ : eh_S) (sz : Nat) (U : State) : Prop := U.heap.size = sz ∧ eh_K D tc U ∧ eh_ok σ ∧ va_P D eh_cl (eh_w ad tc NL σ) U.heap ∧ va_D (fun _ => True) (eh_w ad tc NL σ)
def eh_Q (D : va_G) (tc : Nat → ClassId) (ad : Nat → Int → Nat) (NL : eh_S → List (Nat × Int)) (σ : eh_S) (sz : Nat) (K : Option eh_V → eh_S → Prop) : Array Value → State → Outcome → State → Prop := fun _ st oc t =>
  (∃ (r : Option eh_V) (σ' : eh_S), oc = .returned (r.map (eh_v ad)) ∧ K r σ' ∧ eh_ok σ' ∧ va_P D eh_cl (eh_w ad tc NL σ') t.heap ∧ va_D (va_A (eh_w ad tc NL σ) sz) (eh_w ad tc NL σ')) ∧ va_F (va_A (eh_w ad tc NL σ) sz) st t
abbrev eh_rm (lv : Nat) (bd : Nat × Nat) : Room := { frames := lv, cells := bd.1, slots := bd.2, locals := 60 * lv }
/-- the contract of a method -/
def eh_M (l : Launch) (D : va_G) (tc : Nat → ClassId) (ad : Nat → Int → Nat) (NL : eh_S → List (Nat × Int)) (y : MethodName) (cc : ByteArray) (maxL : Nat) (ret : Option FieldType) (lv : Nat) (T : eh_T) : Prop :=
  ∀ (args : List eh_V) (σ : eh_S) (bd : Nat × Nat) (K : Option eh_V → eh_S → Prop), T args σ bd K → ∀ sz : Nat, Met l y (ws_ y cc maxL ret) (eh_rm lv bd) (va_Pc (args.map (eh_v ad)) (eh_B D tc ad NL σ sz)) (eh_Q D tc ad NL σ sz K) bd.1 bd.2 (va_A (eh_w ad tc NL σ) sz)
/-- the rules that a method's walk is made by -/
def eh_Ru (nm : Nat → Nat) (fl : Nat → Option (Nat × Nat)) (kn : Nat → Option Int) (cs ss : Nat → Option (Nat × eh_T)) (lim : Nat × Nat) (Rt : Option eh_V → eh_S → Prop) (rb : Nat) (cc : ByteArray) (X : eh_X) : Prop :=
  (∀ (pc : Nat) (i : Instr) (len : Nat) (ls : eh_L) (st : List eh_V) (σ : eh_S) (b : Nat × Nat), decode cc pc = .ok (i, len) → (eh_ok σ → eh_wp nm fl kn cs ss lim Rt rb i len pc ls st σ b X) → X pc ls st σ b) ∧
  ∀ (pc : Nat) (ls : eh_L) (st : List eh_V) (σ : eh_S) (b : Nat × Nat), (eh_ok σ → X pc ls st σ b) → X pc ls st σ b
abbrev eh_en (maxL : Nat) (args : List eh_V) : eh_L := args.map some ++ List.replicate (maxL - args.length) none
theorem eh_args_mem (ad : Nat → Int → Nat) : ∀ (as : List eh_V) (k i : Nat) (v : eh_V), as[i]? = some v → (k + i, eh_v ad v) ∈ lv_args k (as.map (eh_v ad))
  | [], _, _, _, h => by simp at h
  | a :: as, k, i, v, h => by
    rw [List.map_cons, lv_args, if_neg (by rw [eh_v_cat]; decide)]
    cases i with
    | zero =>
      simp at h
      subst h
      exact List.mem_cons_self
    | succ i =>
      rw [List.getElem?_cons_succ] at h
      have := eh_args_mem ad as (k + 1) i v h
      rw [show k + (i + 1) = k + 1 + i by omega]
      exact List.mem_cons_of_mem _ this
theorem eh_args_len (ad : Nat → Int → Nat) (as : List eh_V) : (lg_sl (as.map (eh_v ad))).length = as.length := by
  induction as with
  | nil => rfl
  | cons a as ih =>
    unfold lg_sl at ih ⊢
    rw [List.map_cons, List.flatMap_cons, if_neg (by rw [eh_v_cat]; decide), List.length_append, ih]
    simp
    omega
/-- what a call of this method finds around it -/
def eh_CX (p : Program) (R : Room) (s : State) (m : MethodId) (args : Array Value) (c : Code) (own : String) (cc : ByteArray) (nL lv : Nat) (D : va_G) (tc : Nat → ClassId) (A : Nat → Prop) : Prop :=
  p.tables.exec = Jvm.exec ∧ c.code = cc ∧ c.maxLocals = nL ∧ s.vm.findClass own = some m.cls ∧ (∀ w ∈ lw_all, w.before args s = true) ∧ eh_K D tc s ∧ (∀ q, s.heap.size ≤ q → A q) ∧ R.frames = lv ∧ R.locals = 60 * lv
def eh_CK (l : Launch) (D : va_G) (tc : Nat → ClassId) (ad : Nat → Int → Nat) (NL : eh_S → List (Nat × Int)) (own : String) (cc : ByteArray) (nL lv : Nat) (i : Instr) (n : Nat) (T : eh_T) : Prop :=
  ∀ (p : Program) (e : Env) (R : Room) (s : State) (m : MethodId) (args : Array Value) (below : List Frame) (meth : Method) (c : Code) (Q : State → Prop) (A : Nat → Prop), eh_CX p R s m args c own cc nL lv D tc A → eh_CO p l e R s m args below meth c Q D tc ad NL A nL cc i n T
section EHM
variable {l : Launch} {D : va_G} {tc : Nat → ClassId} {ad : Nat → Int → Nat} {NL : eh_S → List (Nat × Int)} {nm : Nat → Nat}
theorem eh_mk {y : MethodName} {cc : ByteArray} {maxL lv rb : Nat} {T : eh_T} {fl : Nat → Option (Nat × Nat)} {kn : Nat → Option Int} {cs ss : Nat → Option (Nat × eh_T)} (hy : plainName y.cls = true) (hWd : eh_world nm NL ad)
    (hfl : ∀ idx c k, fl idx = some (c, k) → eh_fok y.cls idx c k) (hkn : ∀ idx z, kn idx = some z → Cond.constant y.cls idx (eh_i z) ∈ lw_all)
    (hcs : ∀ k n T', cs k = some (n, T') → eh_CK l D tc ad NL y.cls cc maxL lv (.invokevirtual k) n T') (hss : ∀ k n T', ss k = some (n, T') → eh_CK l D tc ad NL y.cls cc maxL lv (.invokestatic k) n T')
    (body : ∀ (args : List eh_V) (σ : eh_S) (bd : Nat × Nat) (K : Option eh_V → eh_S → Prop), T args σ bd K → args.length ≤ maxL ∧ ∀ X : eh_X, eh_Ru nm fl kn cs ss bd K rb cc X → X 0 (eh_en maxL args) [] σ (0, 0)) :
    eh_M l D tc ad NL y cc maxL (if rb = 0 then some .int else if rb = 1 then some .boolean else none) lv T := by
  intro as σ bd K hT sz
  obtain ⟨hlen, hX⟩ := body as σ bd K hT
  refine Met.ofW (cc := cc) (maxL := maxL) (ret := (if rb = 0 then some .int else if rb = 1 then some .boolean else none)) hy rfl ?_
  intro p e s m args below meth c s₁ B hml hv
  obtain ⟨rfl, hsz, hK, hok, hP, hD0⟩ := hv
  have hx := B.exec
  have hb := B.bytes
  have hr := B.returns
  have hts := atoms_spec (ws := ws_ y cc maxL (if rb = 0 then some .int else if rb = 1 then some .boolean else none)) B.pre
  have hts : ∀ w ∈ lw_all, w.before _ s = true := fun w h => hts w (List.mem_cons_of_mem _ h)
  have hown : s.vm.findClass y.cls = some m.cls := findClass_of_methodNamed B.named
  have hlocks := B.notSynchronized
  subst hsz
  have hD := hD0.self (sz := s.heap.size)
  have hA : ∀ q : Nat, s.heap.size ≤ q → va_A (eh_w ad tc NL σ) s.heap.size q := fun q h => Or.inr h
  have hl := lv_entry (as.map (eh_v ad)) (n := maxL) (by rw [eh_args_len]; exact hlen)
  rw [lg_entry_eq]
  generalize (lg_sl (as.map (eh_v ad)) ++ List.replicate (maxL - (lg_sl (as.map (eh_v ad))).length) Slot.unset).toArray = la at hl ⊢
  have hlv : eh_lv ad la maxL (eh_en maxL as) := by
    refine ⟨by simp; omega, hl.1, hl.2.1, fun q hq => ?_⟩
    obtain ⟨v, h1, h2⟩ := eh_ll_mem.mp hq
    have h3 : as[q.1]? = some v := by
      by_cases hq1 : q.1 < as.length
      · rw [List.getElem?_append_left (by simpa using hq1), List.getElem?_map] at h1
        cases h4 : as[q.1]? with
        | none => rw [h4] at h1; cases h1
        | some w => rw [h4] at h1; cases h1; rfl
      · rw [List.getElem?_append_right (by simpa using hq1), List.getElem?_replicate] at h1
        split at h1 <;> cases h1
    have h5 := eh_args_mem ad as 0 q.1 v h3
    rw [Nat.zero_add, ← h2] at h5
    exact hl.2.2 q h5
  have hcx : eh_CX p (headSpec (ws_ y cc maxL (if rb = 0 then some .int else if rb = 1 then some .boolean else none)) (eh_rm lv bd)).room s m (as.map (eh_v ad)).toArray c y.cls cc maxL lv D tc (va_A (eh_w ad tc NL σ) s.heap.size) := ⟨hx, hb, hml, hown, hts, hK, hA, rfl, rfl⟩
  have hgo := hX (eh_J p l e (headSpec (ws_ y cc maxL (if rb = 0 then some .int else if rb = 1 then some .boolean else none)) (eh_rm lv bd)).room s m (as.map (eh_v ad)).toArray below meth c (MQ below (eh_Q D tc ad NL σ s.heap.size K) (as.map (eh_v ad)).toArray s bd.1 bd.2 (va_A (eh_w ad tc NL σ) s.heap.size)) D tc ad NL (va_A (eh_w ad tc NL σ) s.heap.size) maxL) ⟨(eh_sound (e := e) (l := l) (R := (headSpec (ws_ y cc maxL (if rb = 0 then some .int else if rb = 1 then some .boolean else none)) (eh_rm lv bd)).room) (below := below) (meth := meth) (Qc := eh_Q D tc ad NL σ s.heap.size K) (free := va_A (eh_w ad tc NL σ) s.heap.size) (lim := bd) (Rt := K) (rb := rb) (fl := fl) (kn := kn) (cs := cs) (ss := ss) (A := va_A (eh_w ad tc NL σ) s.heap.size) hx hb hr hlocks hml hown hts hK hA hWd hfl hkn ⟨Nat.le_refl _, Nat.le_refl _⟩ (fun k n T' h => hcs k n T' h _ _ _ _ _ _ _ _ _ _ _ hcx) (fun k n T' h => hss k n T' h _ _ _ _ _ _ _ _ _ _ _ hcx)
    (fun r σ' H locs hk hok' hP' hD' hS' => ⟨fun t ht hW => ⟨⟨r, σ', rfl, hk, hok', by rw [ht]; exact hP', hD'⟩, hS'.F ht⟩, hS'.2.2⟩)), fun _ _ _ _ _ h H locs la hok' => h hok' H locs la hok'⟩
  exact hgo s.heap [] la hok hP hD va_S.rf hlv
end EHM
section EHC
variable {p : Program} {l : Launch} {e : Env} {R : Room} {s : State} {m : MethodId} {args : Array Value} {below : List Frame} {meth : Method} {c : Code}
variable {D : va_G} {tc : Nat → ClassId} {ad : Nat → Int → Nat} {NL : eh_S → List (Nat × Int)} {nm : Nat → Nat} {A : Nat → Prop} {nL : Nat} {cc : ByteArray} {Q : State → Prop}
variable {pc : Nat} {H : Heap} {locs : List Loc} {la : Array Slot} {σ : eh_S} {b bd : Nat × Nat} {K : Option eh_V → eh_S → Prop}
theorem eh_callW {st0 : List Value} {rest : List eh_V} {a : Array Value} (hr : va_Run p l e R s m args below meth c H locs b.1 b.2 bd.1 bd.2 (F0 m pc la st0) (rest.map (eh_v ad)) (eh_Q D tc ad NL σ H.size K a) (va_A (eh_w ad tc NL σ) H.size)) (hD : va_D A (eh_w ad tc NL σ)) (hS : va_S A s.heap H locs) (hA : ∀ q, s.heap.size ≤ q → A q)
    (kk : ∀ (r : Option eh_V) (σ' : eh_S) (H1 : Heap) (locs1 : List Loc), K r σ' → eh_ok σ' → va_P D eh_cl (eh_w ad tc NL σ') H1 → va_D A (eh_w ad tc NL σ') → va_S A s.heap H1 locs1 → W p l e R s m args below meth c H1 locs1 (b.1 + bd.1) (b.2 + bd.2) Q (F0 m (pc + 3) la ((r.toList ++ rest).map (eh_v ad)))) : W p l e R s m args below meth c H locs b.1 b.2 Q (F0 m pc la st0) := by
  have hsub : ∀ q, va_A (eh_w ad tc NL σ) H.size q → A q := by
    intro q hq
    rcases hq with ⟨k, e', h⟩ | h
    · exact hD.2 k (q, e') h
    · exact hA q (Nat.le_trans hS.1 h)
  intro T hT X
  obtain ⟨v, st₀, t, T', L, h0, X', hL, e1, e2, ⟨⟨r, σ', hv, hk, hok', hP1, hD1⟩, hz, hkeep⟩, st⟩ := hr T hT X
  have hv : v = r.map (eh_v ad) := Outcome.returned.inj hv
  subst hv
  rw [h0] at hz hkeep
  have est : (r.map (eh_v ad)).toList ++ rest.map (eh_v ad) = (r.toList ++ rest).map (eh_v ad) := by
    cases r <;> rfl
  rw [est] at st
  obtain ⟨t2, a1, b1⟩ := kk r σ' T'.heap (locs ++ L) hk hok' (by rw [e1]; exact hP1) (hD1.weaken (fun _ _ _ h => hsub _ h))
    ⟨Nat.le_trans hS.1 (by rw [e1]; exact hz), fun q h1 h2 => by rw [e1, hkeep q (Nat.lt_of_lt_of_le h1 hS.1) (fun z => h2 (hsub q z))]; exact hS.2.1 q h1 h2, fun q hq => by
      rcases List.mem_append.mp hq with h | h
      · exact hS.2.2 q h
      · exact hsub _ (hL q h)⟩ T' rfl X'
  exact ⟨t2, st t2 a1, b1⟩
theorem eh_blind {as : List Value} {sz : Nat} : FrameBlind (va_Pc as (eh_B D tc ad NL σ sz)) := by
  intro a U g mk q
  obtain ⟨q0, q1, qK, qo, qP, qD⟩ := q
  exact ⟨q0, q1, eh_K.same rfl qK, qo, qP, qD⟩
theorem eh_pre {as : List Value} (hK : eh_K D tc s) (hok : eh_ok σ) (hP : va_P D eh_cl (eh_w ad tc NL σ) H) (hD : va_D A (eh_w ad tc NL σ)) : ∀ U : State, U.heap = H → s.WarmedH U.vm → va_Pc as (eh_B D tc ad NL σ H.size) as.toArray U := fun U hU hW => ⟨rfl, by rw [hU], eh_K.warm hW hK, hok, by rw [hU]; exact hP, hD.weaken (fun _ _ _ _ => trivial)⟩
theorem eh_sum (rest : List eh_V) (h : rest.length ≤ 8) : ((rest.map (eh_v ad)).map fun v => v.category).sum ≤ 8 := by
  have : ((rest.map (eh_v ad)).map fun v => v.category).sum = rest.length := by
    induction rest with
    | nil => rfl
    | cons a l ih =>
      simp only [List.map_cons, List.sum_cons, List.length_cons] at *
      rw [eh_v_cat, ih (by omega)]
      omega
  omega
theorem eh_callV {y : MethodName} {bytes : ByteArray} {maxL lvc lv n c0 k : Nat} {ret : Option FieldType} {T : eh_T} {own C : String} {Tc : u_T} {Nc : Nat} (hM : eh_M l D tc ad NL y bytes maxL ret lvc T)
    (h1 : Cond.methodLink own k y ∈ lw_all) (h2 : Cond.instanceMethod y ∈ lw_all) (h3 : Cond.selects C y y ∈ lw_all) (h4 : Cond.initialized C ∈ lw_all) (h5 : Cond.code y bytes maxL ret ∈ lw_all)
    (hd : y.cls = C ∧ y.cls ≠ "java/lang/invoke/MethodHandle" ∧ y.cls ≠ "java/lang/invoke/VarHandle" ∧ (parseMethodDescriptor y.desc).map (fun d => d.parameters.length) = some n) (hlv : lvc + 1 ≤ lv) (hmx : maxL ≤ 40) (hc0 : c0 < 5) (hcl : eh_cl[c0]? = some (C, Tc, Nc)) (hWd : eh_world nm NL ad)
    (hrec : ∀ as σ bd K, T as σ bd K → ∃ (i : Int) (as' : List eh_V), as = .inr (some (c0, i)) :: as' ∧ 0 ≤ i ∧ i < nm c0) : eh_CK l D tc ad NL own cc nL lv (.invokevirtual k) (n + 1) T := by
  intro p e R s m args below meth c Q A hcx pc as rest σ b bd K H locs la hdg hn h8 hb1 hb2 hT hok hP hD hS hsz kk
  obtain ⟨hx, hb, hml, hown, hts, hK, hA, hRf, hRl⟩ := hcx
  obtain ⟨i, as', rfl, hi0, hi1⟩ := hrec as σ bd K hT
  obtain ⟨q0, -, hq⟩ := eh_w_at (ad := ad) (tc := tc) (hWd.1 σ c0 i hi0 hi1)
  rw [eh_c_o hc0] at hq
  have hrv := va_recv hK.1 hP hcl hq
  refine eh_callW (va_runV (As := as'.map (eh_v ad)) (n := n) (b := ad c0 i) ⟨hx, hb, hml, hown, hts⟩ (hM _ σ bd K hT H.size) (cwV n hts (lw_V h1 h2 h3 h4 h5) rfl rfl rfl hd ⟨by rw [hRf]; exact hlv, by rw [hRl]; show 8 + (maxL + 11) + 60 * lvc ≤ 60 * lv; omega⟩)
    ⟨eh_blind, hrv, eh_pre hK hok hP hD⟩ rfl (by simpa using hn) hsz ?_ (lv_room (eh_sum rest h8)) hdg ⟨hb1, hb2⟩) hD hS hA kk
  show (((.inr (some (c0, i)) :: as').reverse ++ rest).map (eh_v ad)) = _
  simp [eh_v]
theorem eh_callVN {y : MethodName} {bytes : ByteArray} {maxL lvc lv n c0 k : Nat} {ret : Option FieldType} {T : eh_T} {own C : String} {Tc : u_T} {Nc : Nat} (hM : eh_M l D tc ad NL y bytes maxL ret lvc T)
    (h1 : (own, k, y) ∈ eh_nwM) (h2 : Cond.instanceMethod y ∈ lw_all) (h3 : Cond.selects C y y ∈ lw_all) (h4 : Cond.initialized y.cls ∈ lw_all) (h5 : Cond.code y bytes maxL ret ∈ lw_all)
    (hd : y.cls ≠ "java/lang/invoke/MethodHandle" ∧ y.cls ≠ "java/lang/invoke/VarHandle" ∧ (parseMethodDescriptor y.desc).map (fun d => d.parameters.length) = some n) (hlv : lvc + 1 ≤ lv) (hmx : maxL ≤ 40) (hc0 : c0 < 5) (hcl : eh_cl[c0]? = some (C, Tc, Nc)) (hWd : eh_world nm NL ad)
    (hrec : ∀ as σ bd K, T as σ bd K → ∃ (i : Int) (as' : List eh_V), as = .inr (some (c0, i)) :: as' ∧ 0 ≤ i ∧ i < nm c0) : eh_CK l D tc ad NL own cc nL lv (.invokevirtual k) (n + 1) T := by
  intro p e R s m args below meth c Q A hcx pc as rest σ b bd K H locs la hdg hn h8 hb1 hb2 hT hok hP hD hS hsz kk
  obtain ⟨hx, hb, hml, hown, hts, hK, hA, hRf, hRl⟩ := hcx
  obtain ⟨i, as', rfl, hi0, hi1⟩ := hrec as σ bd K hT
  obtain ⟨q0, -, hq⟩ := eh_w_at (ad := ad) (tc := tc) (hWd.1 σ c0 i hi0 hi1)
  rw [eh_c_o hc0] at hq
  have hrv := va_recv hK.1 hP hcl hq
  refine eh_callW (va_runVN (As := as'.map (eh_v ad)) (n := n) (b := ad c0 i) ⟨hx, hb, hml, hown, hts⟩ (hM _ σ bd K hT H.size) ⟨va_cnB n hts (lw_meth h5) rfl rfl rfl (hK.2.2.2.2 _ h1) (hts _ h4) hd ⟨by rw [hRf]; exact hlv, by rw [hRl]; show 8 + (maxL + 11) + 60 * lvc ≤ 60 * lv; omega⟩, hts _ h2, hts _ h3⟩
    ⟨eh_blind, hrv, eh_pre hK hok hP hD⟩ rfl (by simpa using hn) hsz ?_ (lv_room (eh_sum rest h8)) hdg ⟨hb1, hb2⟩) hD hS hA kk
  show (((.inr (some (c0, i)) :: as').reverse ++ rest).map (eh_v ad)) = _
  simp [eh_v]
theorem eh_callS {y : MethodName} {bytes : ByteArray} {maxL lvc lv n k : Nat} {ret : Option FieldType} {T : eh_T} {own : String} (hM : eh_M l D tc ad NL y bytes maxL ret lvc T)
    (h1 : Cond.methodLink own k y ∈ lw_all) (h2 : Cond.static y ∈ lw_all) (h3 : Cond.initialized y.cls ∈ lw_all) (h4 : Cond.code y bytes maxL ret ∈ lw_all)
    (hd : y.cls ≠ "java/lang/invoke/MethodHandle" ∧ y.cls ≠ "java/lang/invoke/VarHandle" ∧ (parseMethodDescriptor y.desc).map (fun d => d.parameters.length) = some n) (hlv : lvc + 1 ≤ lv) (hmx : maxL ≤ 40) : eh_CK l D tc ad NL own cc nL lv (.invokestatic k) n T := by
  intro p e R s m args below meth c Q A hcx pc as rest σ b bd K H locs la hdg hn h8 hb1 hb2 hT hok hP hD hS hsz kk
  obtain ⟨hx, hb, hml, hown, hts, hK, hA, hRf, hRl⟩ := hcx
  refine eh_callW (va_runS (As := as.map (eh_v ad)) (n := n) ⟨hx, hb, hml, hown, hts⟩ (hM _ σ bd K hT H.size) (va_cwS n hts (lw_S h1 h2 h3 h4) rfl rfl rfl hd ⟨by rw [hRf]; exact hlv, by rw [hRl]; show 8 + (maxL + 11) + 60 * lvc ≤ 60 * lv; omega⟩)
    ⟨eh_blind, eh_pre hK hok hP hD⟩ rfl (by simpa using hn) hsz ?_ (lv_room (eh_sum rest h8)) hdg ⟨hb1, hb2⟩) hD hS hA kk
  show ((as.reverse ++ rest).map (eh_v ad)) = _
  simp
end EHC
