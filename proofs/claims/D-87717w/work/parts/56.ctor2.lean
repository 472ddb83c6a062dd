/-! constructors: calls, objects, arrays of references -/
def ec_AA (t : FieldType) (U : State) : Prop := (Cond.arrayOver (.array t)).before #[] U = true
theorem ec_AA.moved {t : FieldType} {u U : State} (hvm : u.vm.Alike U.vm) (h : ec_AA t u) : ec_AA t U := by
  obtain ⟨comp, c, k, h1, h2, h3, h4, h5⟩ := arrayOverA_spec h
  obtain ⟨k', hk', he⟩ := hvm.2.2 _ _ h3
  have hi : (U.vm.classes.findIdx? fun (x : Class) => match x.kind with | .array component _ => component == comp | _ => false) = some c := by
    have b1 := va_idx_bare U.vm comp
    have b2 := va_idx_bare u.vm comp
    have b3 : U.vm.bare = u.vm.bare := by first | exact hvm.bare_eq | exact hvm.bare_eq.symm
    rw [b3] at b1
    exact b1.symm.trans (b2.trans h2)
  have hkind : k'.kind = .array comp (.array t) := by rw [he]; exact h4
  have f1 : U.vm.findClass (FieldType.array t).toString = some comp := by rw [hvm.findClass]; exact h1
  have f2 : U.vm.findClass ("[" ++ (FieldType.array t).toString) = some c := by rw [hvm.findClass]; exact h5
  unfold ec_AA Cond.before Cond.holds
  simp only [Cond.value]
  rw [f1, Option.bind_some]
  refine (congrArg (fun o : Option Nat => (o.bind (fun c => (U.vm.classes[c]?).map fun (k : Class) => match k.kind with | .array _ ty => decide (ty = FieldType.array t) && decide (U.vm.findClass ("[" ++ (FieldType.array t).toString) = some c) | _ => false) == some true)) hi).trans ?_
  simp [hk', hkind, f2]
/-- what EventHunter's constructor needs of the tables besides -/
def ec_X (tc : Nat → ClassId) (U : State) : Prop := ec_AA .short U ∧ ec_AA .byte U ∧ va_AO "EventHunter$Pattern" U ∧ U.vm.findClass ("[" ++ (FieldType.array .short).toString) = some (tc 4) ∧ U.vm.findClass ("[" ++ (FieldType.array .byte).toString) = some (tc 5)
theorem ec_X.moved {tc : Nat → ClassId} {u U : State} (hvm : u.vm.Alike U.vm) (h : ec_X tc u) : ec_X tc U := ⟨h.1.moved hvm, h.2.1.moved hvm, h.2.2.1.moved hvm, by rw [hvm.findClass]; exact h.2.2.2.1, by rw [hvm.findClass]; exact h.2.2.2.2⟩
theorem ec_nd : ∀ (l : List Nat), l.Nodup → va_nd l = true
  | [], _ => rfl
  | a :: l, h => by
    have h := List.nodup_cons.mp h
    simp only [va_nd, Bool.and_eq_true, decide_eq_true_eq]
    exact ⟨h.1, ec_nd l h.2⟩
theorem ec_cut {A : Nat → Prop} {D : va_G} {ws w1 : va_W} {b : Nat} {x : va_E} {H H1 : Heap} (hP : va_P D eh_cl (ws ++ [(b, x)]) H) (hD : va_D A (ws ++ [(b, x)])) (hk : ∀ q : Nat, q < H.size → ¬ va_A [(b, x)] H.size q → H1[q]? = H[q]?) (hF : ∀ q, va_A [(b, x)] H.size q → A q) (hP1 : va_P D eh_cl w1 H1) (hD1 : va_D (va_A [(b, x)] H.size) w1) : va_P D eh_cl (ws ++ w1) H1 ∧ va_D A (ws ++ w1) := by
  refine va_join (ws := ws ++ [(b, x)]) (wc := [(b, x)]) (wr := ws) hP hD [ws.length] (List.range ws.length) ?_ ?_ ?_ ?_ hk hF hP1 hD1
  · simp
  · apply List.ext_getElem?
    intro j
    rw [List.getElem?_map, List.getElem?_map]
    by_cases hj : j < ws.length
    · rw [List.getElem?_range hj, List.getElem?_eq_getElem hj]
      simp [List.getElem?_append_left hj]
    · rw [List.getElem?_eq_none (by simpa using Nat.le_of_not_lt hj), List.getElem?_eq_none (Nat.le_of_not_lt hj)]
      rfl
  · exact ec_nd _ List.nodup_range
  · intro i hi
    have := List.mem_range.mp hi
    simp
    omega
section ECC
variable {p : Program} {l : Launch} {e : Env} {R : Room} {s : State} {m : MethodId} {args : Array Value} {below : List Frame} {meth : Method} {c : Code}
variable {D : va_G} {tc : Nat → ClassId} {A : Nat → Prop} {cc : ByteArray} {Q : State → Prop} {own : String}
variable {pc : Nat} {H : Heap} {locs : List Loc} {ls : Array Slot} {cells slots mc ms : Nat} {rest : List Value}
theorem ec_callW {st0 : List Value} {b : Nat} {x : va_E} {ws : va_W} {K : va_W → Prop} (hr : va_Run p l e R s m args below meth c H locs cells slots mc ms (F0 m pc ls st0) rest (fun st oc t => (oc = .returned none ∧ ∃ ws', K ws' ∧ va_P D eh_cl ws' t.heap ∧ va_D (va_A [(b, x)] H.size) ws') ∧ va_F (va_A [(b, x)] H.size) st t) (va_A [(b, x)] H.size)) (hP : va_P D eh_cl (ws ++ [(b, x)]) H) (hD : va_D A (ws ++ [(b, x)])) (hS : va_S A s.heap H locs) (hA : ∀ q, s.heap.size ≤ q → A q)
    (kk : ∀ (ws' : va_W) (H1 : Heap) (locs1 : List Loc), K ws' → va_P D eh_cl (ws ++ ws') H1 → va_D A (ws ++ ws') → va_S A s.heap H1 locs1 → W p l e R s m args below meth c H1 locs1 (cells + mc) (slots + ms) Q (F0 m (pc + 3) ls rest)) : W p l e R s m args below meth c H locs cells slots Q (F0 m pc ls st0) := by
  have hsub : ∀ q, va_A [(b, x)] H.size q → A q := by
    intro q hq
    rcases hq with ⟨k, e', h⟩ | h
    · have hk : k < 1 := (List.getElem?_eq_some_iff.mp h).1
      rw [show k = 0 by omega] at h
      cases h
      exact hD.2 ws.length (b, x) (by simp)
    · exact hA q (Nat.le_trans hS.1 h)
  intro T hT X
  obtain ⟨v, st₀, t, T', L, h0, X', hL, e1, e2, ⟨⟨hv, ws', hk, hP1, hD1⟩, hz, hkeep⟩, st⟩ := hr T hT X
  have hv : v = none := Outcome.returned.inj hv
  subst hv
  rw [h0] at hz hkeep
  obtain ⟨j1, j2⟩ := ec_cut (H1 := T'.heap) hP hD (fun q h1 h2 => by rw [e1]; exact hkeep q h1 h2) hsub (by rw [e1]; exact hP1) hD1
  obtain ⟨t2, a1, b1⟩ := kk ws' T'.heap (locs ++ L) hk j1 j2
    ⟨Nat.le_trans hS.1 (by rw [e1]; exact hz), fun q h1 h2 => by rw [e1, hkeep q (Nat.lt_of_lt_of_le h1 hS.1) (fun z => h2 (hsub q z))]; exact hS.2.1 q h1 h2, fun q hq => by
      rcases List.mem_append.mp hq with h | h
      · exact hS.2.2 q h
      · exact hsub _ (hL q h)⟩ T' rfl X'
  exact ⟨t2, st t2 a1, b1⟩
theorem ec_pre {X : State → Prop} {b : Nat} {x : va_E} {ws : va_W} {as : List Value} (hK : eh_K D tc s) (hX : ∀ U : State, s.WarmedH U.vm → X U) (hP : va_P D eh_cl (ws ++ [(b, x)]) H) (hD : va_D A (ws ++ [(b, x)])) : ∀ U : State, U.heap = H → s.WarmedH U.vm → va_Pc as (fun U => U.heap.size = H.size ∧ eh_K D tc U ∧ X U ∧ va_P D eh_cl [(b, x)] U.heap ∧ va_D (fun _ => True) [(b, x)]) as.toArray U := fun U hU hW => by
  have h1 : va_P D eh_cl [(b, x)] H := fun k q hk => by
    have hk' : k < 1 := (List.getElem?_eq_some_iff.mp hk).1
    rw [show k = 0 by omega] at hk
    cases hk
    exact hP ws.length _ (by simp)
  refine ⟨rfl, by rw [hU], eh_K.warm hW hK, hX U hW, by rw [hU]; exact h1, fun i j p q hi hj _ => ?_, fun _ _ _ => trivial⟩
  have hi' : i < 1 := (List.getElem?_eq_some_iff.mp hi).1
  have hj' : j < 1 := (List.getElem?_eq_some_iff.mp hj).1
  omega
/-- a nest mate's constructor -/
theorem ec_callN {y : MethodName} {bytes : ByteArray} {maxL lvc n idx : Nat} {As : List Value} {b : Nat} {x : va_E} {ws : va_W} {K : va_W → Prop} (hx : p.tables.exec = Jvm.exec) (hb : c.code = cc) (hown : s.vm.findClass own = some m.cls) (hts : ∀ w ∈ lw_all, w.before args s = true) (hK : eh_K D tc s) (hA : ∀ q, s.heap.size ≤ q → A q) (hM : ec_M l D tc y bytes maxL lvc mc ms (fun _ => True) (.ref b :: As) [(b, x)] K) (h1 : (own, idx, y) ∈ eh_nwM) (h2 : Cond.instanceMethod y ∈ lw_all) (h4 : Cond.initialized y.cls ∈ lw_all) (h5 : Cond.code y bytes maxL none ∈ lw_all)
    (hd : y.cls ≠ "java/lang/invoke/MethodHandle" ∧ y.cls ≠ "java/lang/invoke/VarHandle" ∧ (parseMethodDescriptor y.desc).map (fun d => d.parameters.length) = some n) (hnm : y.name = "<init>") (hRf : lvc + 1 ≤ R.frames) (hRl : 8 + (maxL + 11) + 60 * lvc ≤ R.locals) (hn : As.length = n) (hsz : ls.size = c.maxLocals) (hcat : (rest.map fun v => v.category).sum ≤ 8)
    (hP : va_P D eh_cl (ws ++ [(b, x)]) H) (hD : va_D A (ws ++ [(b, x)])) (hS : va_S A s.heap H locs) (hb1 : cells + mc ≤ R.cells) (hb2 : slots + ms ≤ R.slots) (hdg : decode cc pc = .ok (.invokespecial idx, 3))
    (kk : ∀ (ws' : va_W) (H1 : Heap) (locs1 : List Loc), K ws' → va_P D eh_cl (ws ++ ws') H1 → va_D A (ws ++ ws') → va_S A s.heap H1 locs1 → W p l e R s m args below meth c H1 locs1 (cells + mc) (slots + ms) Q (F0 m (pc + 3) ls rest)) : W p l e R s m args below meth c H locs cells slots Q (F0 m pc ls (As.reverse ++ .ref b :: rest)) :=
  ec_callW (va_runIN (As := As) (n := n) (b := b) ⟨hx, hb, rfl, hown, hts⟩ (hM H.size) ⟨va_cnB n hts (lw_meth h5) rfl rfl rfl (hK.2.2.2.2 _ h1) (hts _ h4) hd ⟨hRf, hRl⟩, hnm, hts _ h2⟩ ⟨fun a U g mk q => ⟨q.1, q.2.1, eh_K.same rfl q.2.2.1, trivial, q.2.2.2.2⟩, ec_pre hK (fun _ _ => trivial) hP hD⟩ rfl hn hsz rfl (lv_room hcat) hdg ⟨hb1, hb2⟩) hP hD hS hA kk
/-- another class's constructor -/
theorem ec_callI {y : MethodName} {bytes : ByteArray} {maxL lvc n idx : Nat} {X : State → Prop} {As : List Value} {b : Nat} {x : va_E} {ws : va_W} {K : va_W → Prop} (hx : p.tables.exec = Jvm.exec) (hb : c.code = cc) (hown : s.vm.findClass own = some m.cls) (hts : ∀ w ∈ lw_all, w.before args s = true) (hK : eh_K D tc s) (hX : ∀ U : State, s.WarmedH U.vm → X U) (hXv : ∀ U U' : State, U.vm = U'.vm → X U → X U') (hA : ∀ q, s.heap.size ≤ q → A q) (hM : ec_M l D tc y bytes maxL lvc mc ms X (.ref b :: As) [(b, x)] K) (h1 : Cond.methodLink own idx y ∈ lw_all) (h2 : Cond.instanceMethod y ∈ lw_all) (h4 : Cond.initialized y.cls ∈ lw_all) (h5 : Cond.code y bytes maxL none ∈ lw_all)
    (hd : y.cls ≠ "java/lang/invoke/MethodHandle" ∧ y.cls ≠ "java/lang/invoke/VarHandle" ∧ (parseMethodDescriptor y.desc).map (fun d => d.parameters.length) = some n) (hnm : y.name = "<init>") (hRf : lvc + 1 ≤ R.frames) (hRl : 8 + (maxL + 11) + 60 * lvc ≤ R.locals) (hn : As.length = n) (hsz : ls.size = c.maxLocals) (hcat : (rest.map fun v => v.category).sum ≤ 8)
    (hP : va_P D eh_cl (ws ++ [(b, x)]) H) (hD : va_D A (ws ++ [(b, x)])) (hS : va_S A s.heap H locs) (hb1 : cells + mc ≤ R.cells) (hb2 : slots + ms ≤ R.slots) (hdg : decode cc pc = .ok (.invokespecial idx, 3))
    (kk : ∀ (ws' : va_W) (H1 : Heap) (locs1 : List Loc), K ws' → va_P D eh_cl (ws ++ ws') H1 → va_D A (ws ++ ws') → va_S A s.heap H1 locs1 → W p l e R s m args below meth c H1 locs1 (cells + mc) (slots + ms) Q (F0 m (pc + 3) ls rest)) : W p l e R s m args below meth c H locs cells slots Q (F0 m pc ls (As.reverse ++ .ref b :: rest)) :=
  ec_callW (va_runI (As := As) (n := n) (b := b) ⟨hx, hb, rfl, hown, hts⟩ (hM H.size) (cwI n hts (lw_meth h5) rfl rfl rfl (hts _ h4) (hts _ h1) (hts _ h2) hnm hd ⟨hRf, hRl⟩) ⟨fun a U g mk q => ⟨q.1, q.2.1, eh_K.same rfl q.2.2.1, hXv U _ rfl q.2.2.2.1, q.2.2.2.2⟩, ec_pre hK hX hP hD⟩ rfl hn hsz rfl (lv_room hcat) hdg ⟨hb1, hb2⟩) hP hD hS hA kk
/-- a new object -/
theorem ec_newO {ci : Nat} {C : String} {T : u_T} {N : Nat} {ty : Nat → FieldType} (hx : p.tables.exec = Jvm.exec) (hb : c.code = cc) (hown : s.vm.findClass own = some m.cls) (hts : ∀ w ∈ lw_all, w.before args s = true) (hK : eh_K D tc s) (hA : ∀ q, s.heap.size ≤ q → A q) (hC : ec_C ci C T N ty) {idx : Nat} (h1 : Cond.classLink own idx C ∈ lw_all) (h2 : Cond.instantiable C N ∈ lw_all) (h3 : Cond.initialized C ∈ lw_all) (hdef : ∀ j, j < N → defaultValue (ty j) = ec_d ci j)
    {ws : va_W} (hP : va_P D eh_cl ws H) (hD : va_D A ws) (hS : va_S A s.heap H locs) (hcells : cells + 1 ≤ R.cells) (hslots : slots + N ≤ R.slots) (hdg : decode cc pc = .ok (.new idx, 3))
    (kk : ∀ (q : Nat) (H1 : Heap), va_P D eh_cl (ws ++ [(q, .inr (ci, ec_f ci (ec_d ci)))]) H1 → va_D A (ws ++ [(q, .inr (ci, ec_f ci (ec_d ci)))]) → va_S A s.heap H1 locs → W p l e R s m args below meth c H1 locs (cells + 1) (slots + N) Q (F0 m (pc + 3) ls (.ref q :: rest))) : W p l e R s m args below meth c H locs cells slots Q (F0 m pc ls rest) := by
  obtain ⟨hcl, hN, hty, hnm, hinw⟩ := hC
  refine va_new hx hb hts hinw ty hty hown (hts _ h1) (hts _ h2) (hts _ h3) hK.1 hP hD hS hA hcl (fs := ec_f ci (ec_d ci)) (fun j hj => ?_) hcells hslots hdg kk
  rw [hdef j hj]
  unfold vp_V
  rw [List.getD_eq_getElem?_getD, ec_f_at (by rw [hN]; exact hj)]
  rfl
/-- a new array of patterns -/
theorem ec_newQ (hx : p.tables.exec = Jvm.exec) (hb : c.code = cc) (hown : s.vm.findClass own = some m.cls) (hts : ∀ w ∈ lw_all, w.before args s = true) (hK : eh_K D tc s) (hA : ∀ q, s.heap.size ≤ q → A q) {idx : Nat} (h1 : Cond.classLink own idx "EventHunter$Pattern" ∈ lw_all) (hX : va_AO "EventHunter$Pattern" s) {x : Int32} {n : Nat} (hx0 : ¬ x < 0) (hxn : x.toNatClampNeg = n) (hn : n ≤ 1000000)
    {ws : va_W} (hP : va_P D eh_cl ws H) (hD : va_D A ws) (hS : va_S A s.heap H locs) (hcells : cells + 1 ≤ R.cells) (hslots : slots + n ≤ R.slots) (hdg : decode cc pc = .ok (.anewarray idx, 3))
    (kk : ∀ (q : Nat) (H1 : Heap), va_P D eh_cl (ws ++ [(q, .inl (tc 6, n, .inr (.inr (.inr (.inr (fun _ => none))))))]) H1 → va_D A (ws ++ [(q, .inl (tc 6, n, .inr (.inr (.inr (.inr (fun _ => none))))))]) → va_S A s.heap H1 locs → W p l e R s m args below meth c H1 locs (cells + 1) (slots + n) Q (F0 m (pc + 3) ls (.ref q :: rest))) : W p l e R s m args below meth c H locs cells slots Q (F0 m pc ls (.int x :: rest)) := by
  refine va_newq hx hb hown (hts _ h1) hX hK.1 hP hD hS hA hx0 hxn (by omega) hcells hslots hdg (fun q cA H1 k1 k2 k3 k4 => ?_)
  obtain ⟨-, _, _, -, -, -, n1⟩ := k1.2 5 _ rfl
  obtain ⟨-, _, _, -, -, -, n2⟩ := hK.1.2 4 _ rfl
  have hcA : cA = tc 6 := Option.some.inj (n1.symm.trans n2)
  subst hcA
  exact kk q H1 k2 k3 k4
/-- a new array of arrays -/
theorem ec_newA (hx : p.tables.exec = Jvm.exec) (hb : c.code = cc) (hown : s.vm.findClass own = some m.cls) (hts : ∀ w ∈ lw_all, w.before args s = true) (hA : ∀ q, s.heap.size ≤ q → A q) {idx : Nat} {t : FieldType} (h1 : Cond.classLink own idx (FieldType.array t).toString ∈ lw_all) (hX : ec_AA t s) {k : Nat} (hk : s.vm.findClass ("[" ++ (FieldType.array t).toString) = some (tc k)) {x : Int32} {n : Nat} (hx0 : ¬ x < 0) (hxn : x.toNatClampNeg = n) (hn : n ≤ 1000000)
    {ws : va_W} (hP : va_P D eh_cl ws H) (hD : va_D A ws) (hS : va_S A s.heap H locs) (hcells : cells + 1 ≤ R.cells) (hslots : slots + n ≤ R.slots) (hdg : decode cc pc = .ok (.anewarray idx, 3))
    (kk : ∀ (q : Nat) (H1 : Heap), va_P D eh_cl (ws ++ [(q, .inl (tc k, n, .inr (.inr (.inr (.inr (fun _ => none))))))]) H1 → va_D A (ws ++ [(q, .inl (tc k, n, .inr (.inr (.inr (.inr (fun _ => none))))))]) → va_S A s.heap H1 locs → W p l e R s m args below meth c H1 locs (cells + 1) (slots + n) Q (F0 m (pc + 3) ls (.ref q :: rest))) : W p l e R s m args below meth c H locs cells slots Q (F0 m pc ls (.int x :: rest)) := by
  subst hxn
  refine W.anewA hx hb hown (hts _ h1) hX rfl hdg rfl hx0 (by omega) hcells hslots fun cA kA comp f1 f2 f3 f4 => ?_
  have hcA : cA = tc k := Option.some.inj (f1.symm.trans hk)
  subst hcA
  generalize hH1 : H.push ({ cls := tc k, slots := Array.replicate x.toNatClampNeg .null, vm := .none } : Cell) = H1
  have z1 : H1.size = H.size + 1 := by rw [← hH1, Array.size_push]
  have e1 : H1[H.size]? = some (arrV (tc k) x.toNatClampNeg (fun _ => .null)) := by rw [← hH1, Array.getElem?_push_size, ← arrV_new]
  have o1 : ∀ q : Nat, q < H.size → H1[q]? = H[q]? := fun q hq => by rw [← hH1, Array.getElem?_push, if_neg (Nat.ne_of_lt hq)]
  have hk' : ∀ (k : Nat) (x : Nat × va_E), ws[k]? = some x → H1[x.1]? = H[x.1]? := fun k x hx => o1 x.1 ((hP k x hx).lt)
  refine kk H.size H1 ((hP.kept hk').app (fun k x hx => ?_)) (hD.push hP rfl (hA _ hS.1)) ⟨Nat.le_trans hS.1 (by omega), fun x h1 h2 => (o1 x (Nat.lt_of_lt_of_le h1 hS.1)).trans (hS.2.1 x h1 h2), hS.2.2⟩
  have hz : k < 1 := (List.getElem?_eq_some_iff.mp hx).1
  rw [show k = 0 by omega] at hx
  cases hx
  show H1[H.size]? = some (vp_cell _ _)
  rw [vp_cell_q]
  exact e1
end ECC
