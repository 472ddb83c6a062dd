/-! constructors: worlds as lists of cells, objects under way -/
def ec_f (c : Nat) (g : Nat → Value) : List Value := (List.range (eh_ft c).length).map g
def ec_u (g : Nat → Value) (k : Nat) (v : Value) : Nat → Value := fun j => if j = k then v else g j
theorem ec_f_set {c k : Nat} {g : Nat → Value} {v : Value} : (ec_f c g).set k v = ec_f c (ec_u g k v) := by
  unfold ec_f ec_u
  apply List.ext_getElem?
  intro j
  by_cases hl : j < (eh_ft c).length
  · by_cases hj : j = k
    · subst hj
      rw [List.getElem?_set_self (by simpa using hl), List.getElem?_map, List.getElem?_range hl]
      simp
    · rw [List.getElem?_set_ne (Ne.symm hj), List.getElem?_map, List.getElem?_map, List.getElem?_range hl]
      simp [hj]
  · rw [List.getElem?_eq_none (by simpa using Nat.le_of_not_lt hl), List.getElem?_eq_none (by simpa using Nat.le_of_not_lt hl)]
theorem ec_f_at {c k : Nat} {g : Nat → Value} (h : k < (eh_ft c).length) : (ec_f c g)[k]? = some (g k) := by
  unfold ec_f
  rw [List.getElem?_map, List.getElem?_range h]
  rfl
theorem ec_f_len {c : Nat} {g : Nat → Value} : (ec_f c g).length = (eh_ft c).length := by simp [ec_f]
/-- a class's words in one -/
def ec_C (ci : Nat) (C : String) (T : u_T) (N : Nat) (ty : Nat → FieldType) : Prop := eh_cl[ci]? = some (C, T, N) ∧ (eh_ft ci).length = N ∧ (∀ k, k < N → parseFieldDescriptor (T k).2.2.1 = some (ty k)) ∧ (∀ a, a < N → ∀ b, b < N → a ≠ b → (T a).2.1 ≠ (T b).2.1) ∧ (∀ w ∈ u_ws C T N, w ∈ lw_all)
theorem ec_C0 : ec_C 0 RX0 TX0 21 tyX0 := ⟨rfl, rfl, tyX0_ok, nmX0, in_X0⟩
theorem ec_C1 : ec_C 1 RX1 TX1 6 tyX1 := ⟨rfl, rfl, tyX1_ok, nmX1, in_X1⟩
theorem ec_C2 : ec_C 2 RX2 TX2 5 tyX2 := ⟨rfl, rfl, tyX2_ok, nmX2, in_X2⟩
theorem ec_C3 : ec_C 3 RX3 TX3 17 tyX3 := ⟨rfl, rfl, tyX3_ok, nmX3, in_X3⟩
theorem ec_C4 : ec_C 4 RX4 TX4 48 tyX4 := ⟨rfl, rfl, tyX4_ok, nmX4, in_X4⟩
section ECW
variable {p : Program} {l : Launch} {e : Env} {R : Room} {s : State} {m : MethodId} {args : Array Value} {below : List Frame} {meth : Method} {c : Code}
variable {D : va_G} {tc : Nat → ClassId} {A : Nat → Prop} {cc : ByteArray} {Q : State → Prop} {own : String}
variable {pc : Nat} {H : Heap} {locs : List Loc} {ls : Array Slot} {cells slots : Nat} {rest : List Value}
/-- a value into a final field of this -/
theorem ec_put {ci : Nat} {C : String} {T : u_T} {N : Nat} {ty : Nat → FieldType} (hx : p.tables.exec = Jvm.exec) (hb : c.code = cc) (hown : s.vm.findClass own = some m.cls) (hts : ∀ w ∈ lw_all, w.before args s = true) (hK : eh_K D tc s) (hin : meth.name = "<init>") (hC : ec_C ci C T N ty) (k : Nat) (hk : k < N) (hdecl : (T k).1 = own) {idx : Nat} (hlink : Cond.fieldLink own idx (T k).1 (T k).2.1 (T k).2.2.1 ∈ lw_all) {v : Value} (hn : narrow (ty k) v = v) (hfit : fits (ty k) v = true)
    {h : Nat} {g : Nat → Value} {ws : va_W} (hP : va_P D eh_cl ((h, .inr (ci, ec_f ci g)) :: ws) H) (hD : va_D A ((h, .inr (ci, ec_f ci g)) :: ws)) (hS : va_S A s.heap H locs) (hdg : decode cc pc = .ok (.putfield idx, 3))
    (kk : ∀ (H1 : Heap) (locs1 : List Loc), va_P D eh_cl ((h, .inr (ci, ec_f ci (ec_u g k v))) :: ws) H1 → va_D A ((h, .inr (ci, ec_f ci (ec_u g k v))) :: ws) → va_S A s.heap H1 locs1 → W p l e R s m args below meth c H1 locs1 cells slots Q (F0 m (pc + 3) ls rest)) : W p l e R s m args below meth c H locs cells slots Q (F0 m pc ls (v :: .ref h :: rest)) := by
  obtain ⟨hcl, hN, hty, hnm, hinw⟩ := hC
  have kk' : ∀ (H1 : Heap) (locs1 : List Loc), va_P D eh_cl (((h, .inr (ci, ec_f ci g)) :: ws).set 0 (h, .inr (ci, (ec_f ci g).set k v))) H1 → va_D A (((h, .inr (ci, ec_f ci g)) :: ws).set 0 (h, .inr (ci, (ec_f ci g).set k v))) → va_S A s.heap H1 locs1 → W p l e R s m args below meth c H1 locs1 cells slots Q (F0 m (pc + 3) ls rest) := by
    intro H1 locs1 a1 a2 a3
    rw [ec_f_set] at a1 a2
    exact kk H1 locs1 a1 a2 a3
  by_cases hfin : (T k).2.2.2 = true
  · exact va_putF hx hb hts hinw ty hty hnm hown hK.1 hP hD hS 0 rfl hcl k hk (hts _ hlink) (fun _ h => h) hfin hin hdecl (hty k hk) hn hfit (by rw [ec_f_len, hN]; exact hk) hdg kk'
  · exact va_put hx hb hts hinw ty hty hnm hown hK.1 hP hD hS 0 rfl hcl k hk (hts _ hlink) (fun _ h => h) (by simpa using hfin) (hty k hk) hn hfit (by rw [ec_f_len, hN]; exact hk) hdg kk'
/-- a new array of numbers -/
theorem ec_new (hx : p.tables.exec = Jvm.exec) (hb : c.code = cc) (hts : ∀ w ∈ lw_all, w.before args s = true) (hK : eh_K D tc s) (hA : ∀ q, s.heap.size ≤ q → A q) (t : Nat) {aT : ArrayType} (hat : t = 0 ∧ aT = .int ∨ t = 1 ∧ aT = .boolean) {x : Int32} {n : Nat} (hx0 : ¬ x < 0) (hxn : x.toNatClampNeg = n) (hn : n ≤ 1000000)
    {ws : va_W} (hP : va_P D eh_cl ws H) (hD : va_D A ws) (hS : va_S A s.heap H locs) (hcells : cells + 1 ≤ R.cells) (hslots : slots + n ≤ R.slots) (hdg : decode cc pc = .ok (.newarray aT, 2))
    (kk : ∀ (q : Nat) (H1 : Heap), va_P D eh_cl (ws ++ [(q, .inl (tc t, n, .inl (fun _ => 0)))]) H1 → va_D A (ws ++ [(q, .inl (tc t, n, .inl (fun _ => 0)))]) → va_S A s.heap H1 locs → W p l e R s m args below meth c H1 locs (cells + 1) (slots + n) Q (F0 m (pc + 2) ls (.ref q :: rest))) : W p l e R s m args below meth c H locs cells slots Q (F0 m pc ls (.int x :: rest)) := by
  rcases hat with ⟨rfl, rfl⟩ | ⟨rfl, rfl⟩
  · refine va_newa (atype := .int) (ty := .int) (a0 := (n, .inl (fun _ => 0))) hx hb (hts _ q92) rfl hK.1 hP hD hS hA (fun cA => rfl) hx0 hxn (by show n * 4 ≤ _; omega) hcells hslots hdg (fun q cA H1 k1 k2 k3 k4 => ?_)
    have hcA : cA = tc 0 := Option.some.inj ((k1.2 5 _ rfl).2.symm.trans (hK.1.2 0 _ rfl).2)
    subst hcA
    exact kk q H1 k2 k3 k4
  · refine va_newa (atype := .boolean) (ty := .boolean) (a0 := (n, .inl (fun _ => 0))) hx hb (hts _ q200) rfl hK.1 hP hD hS hA (fun cA => rfl) hx0 hxn (by show n * 1 ≤ _; omega) hcells hslots hdg (fun q cA H1 k1 k2 k3 k4 => ?_)
    have hcA : cA = tc 1 := Option.some.inj ((k1.2 5 _ rfl).2.symm.trans (hK.1.2 1 _ rfl).2)
    subst hcA
    exact kk q H1 k2 k3 k4
/-- a new array into a field of this -/
theorem ec_arr {ci : Nat} {C : String} {T : u_T} {N : Nat} {ty : Nat → FieldType} (hx : p.tables.exec = Jvm.exec) (hb : c.code = cc) (hown : s.vm.findClass own = some m.cls) (hts : ∀ w ∈ lw_all, w.before args s = true) (hK : eh_K D tc s) (hin : meth.name = "<init>") (hA : ∀ q, s.heap.size ≤ q → A q) (hC : ec_C ci C T N ty) (k : Nat) (hk : k < N) (hdecl : (T k).1 = own) {idx : Nat} (hlink : Cond.fieldLink own idx (T k).1 (T k).2.1 (T k).2.2.1 ∈ lw_all) {d : FieldType} (htk : ty k = .array d)
    (t : Nat) {aT : ArrayType} (hat : t = 0 ∧ aT = .int ∨ t = 1 ∧ aT = .boolean) {x : Int32} {n : Nat} (hx0 : ¬ x < 0) (hxn : x.toNatClampNeg = n) (hn : n ≤ 1000000)
    {h : Nat} {g : Nat → Value} {ws : va_W} (hP : va_P D eh_cl ((h, .inr (ci, ec_f ci g)) :: ws) H) (hD : va_D A ((h, .inr (ci, ec_f ci g)) :: ws)) (hS : va_S A s.heap H locs) (hcells : cells + 1 ≤ R.cells) (hslots : slots + n ≤ R.slots) (hd1 : decode cc pc = .ok (.newarray aT, 2)) (hd2 : decode cc (pc + 2) = .ok (.putfield idx, 3))
    (kk : ∀ (q : Nat) (H1 : Heap) (locs1 : List Loc), va_P D eh_cl ((h, .inr (ci, ec_f ci (ec_u g k (.ref q)))) :: (ws ++ [(q, .inl (tc t, n, .inl (fun _ => 0)))])) H1 → va_D A ((h, .inr (ci, ec_f ci (ec_u g k (.ref q)))) :: (ws ++ [(q, .inl (tc t, n, .inl (fun _ => 0)))])) → va_S A s.heap H1 locs1 → W p l e R s m args below meth c H1 locs1 (cells + 1) (slots + n) Q (F0 m (pc + 5) ls rest)) : W p l e R s m args below meth c H locs cells slots Q (F0 m pc ls (.int x :: .ref h :: rest)) := by
  refine ec_new hx hb hts hK hA t hat hx0 hxn hn hP hD hS hcells hslots hd1 (fun q H1 k2 k3 k4 => ?_)
  rw [List.cons_append] at k2 k3
  exact ec_put hx hb hown hts hK hin hC k hk hdecl hlink (by rw [htk]; rfl) (by rw [htk]; rfl) k2 k3 k4 hd2 (fun H2 locs2 a1 a2 a3 => kk q H2 locs2 a1 a2 a3)
end ECW
/-- what a constructor owes: from the cells ws, whatever lies around, to cells of K -/
def ec_M (l : Launch) (D : va_G) (tc : Nat → ClassId) (y : MethodName) (cc : ByteArray) (maxL lv mc ms : Nat) (X : State → Prop) (args : List Value) (ws : va_W) (K : va_W → Prop) : Prop :=
  ∀ sz : Nat, Met l y (ws_ y cc maxL none) { frames := lv, cells := mc, slots := ms, locals := 60 * lv } (va_Pc args (fun U => U.heap.size = sz ∧ eh_K D tc U ∧ X U ∧ va_P D eh_cl ws U.heap ∧ va_D (fun _ => True) ws)) (fun _ st oc t => (oc = .returned none ∧ ∃ ws', K ws' ∧ va_P D eh_cl ws' t.heap ∧ va_D (va_A ws sz) ws') ∧ va_F (va_A ws sz) st t) mc ms (va_A ws sz)
theorem ec_mk {l : Launch} {D : va_G} {tc : Nat → ClassId} {y : MethodName} {cc : ByteArray} {maxL lv mc ms : Nat} {X : State → Prop} {as : List Value} {ws : va_W} {K : va_W → Prop} (hy : plainName y.cls = true) (hlen : (lg_sl as).length ≤ maxL) (hnm : y.name = "<init>")
    (body : ∀ (p : Program) (e : Env) (R : Room) (s : State) (m : MethodId) (below : List Frame) (meth : Method) (c : Code) (Q : State → Prop) (A : Nat → Prop) (la : Array Slot), p.tables.exec = Jvm.exec → c.code = cc → c.maxLocals = maxL → s.vm.findClass y.cls = some m.cls → (∀ w ∈ lw_all, w.before as.toArray s = true) → eh_K D tc s → X s → meth.name = "<init>" → (∀ q, s.heap.size ≤ q → A q) → R.cells = mc ∧ R.slots = ms ∧ R.frames = lv ∧ R.locals = 60 * lv →
      (∀ (H : Heap) (locs : List Loc) (cells slots pc : Nat) (ls : Array Slot) (ws' : va_W), cells ≤ mc → slots ≤ ms → K ws' → va_P D eh_cl ws' H → va_D A ws' → va_S A s.heap H locs → decode cc pc = .ok (.return_, 1) → W p l e R s m as.toArray below meth c H locs cells slots Q (F0 m pc ls [])) →
      va_P D eh_cl ws s.heap → va_D A ws → va_S A s.heap s.heap [] → lv_has la maxL (lv_args 0 as) → W p l e R s m as.toArray below meth c s.heap [] 0 0 Q (F0 m 0 la [])) : ec_M l D tc y cc maxL lv mc ms X as ws K := by
  intro sz
  refine Met.ofW (cc := cc) (maxL := maxL) (ret := none) hy rfl ?_
  intro p e s m args below meth c s₁ B hml hv
  obtain ⟨rfl, hsz, hK, hX, hP, hD0⟩ := hv
  have hr := B.returns
  have hts := atoms_spec (ws := ws_ y cc maxL none) B.pre
  have hts : ∀ w ∈ lw_all, w.before _ s = true := fun w h => hts w (List.mem_cons_of_mem _ h)
  have hown : s.vm.findClass y.cls = some m.cls := findClass_of_methodNamed B.named
  have hlocks := B.notSynchronized
  have hin : meth.name = "<init>" := (name_of_methodNamed B.named B.method).1.trans hnm
  subst hsz
  have hD := hD0.self (sz := s.heap.size)
  have hl := lv_entry as (n := maxL) hlen
  rw [lg_entry_eq]
  generalize (lg_sl as ++ List.replicate (maxL - (lg_sl as).length) Slot.unset).toArray = la at hl ⊢
  refine body p e _ s m below meth c _ (va_A ws s.heap.size) la B.exec B.bytes hml hown hts hK hX hin (fun q h => Or.inr h) ⟨rfl, rfl, rfl, rfl⟩ (fun H locs cells slots pc ls ws' h1 h2 h3 h4 h5 h6 h7 => ?_) hP hD va_S.rf hl
  refine W.widen (k := mc) (n := ms) h1 h2 ?_
  exact W.vret B.exec B.bytes hr (fun t ht hW => ⟨⟨rfl, ws', h3, by rw [ht]; exact h4, h5⟩, h6.F ht⟩) h6.2.2 h7
