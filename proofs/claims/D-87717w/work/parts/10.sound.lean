/-! the machine satisfies the rules -/
/-- what the tables say, all through a run: the classes, the array classes, the words of nest mates -/
def eh_K (D : va_G) (tc : Nat → ClassId) (U : State) : Prop :=
  va_K D eh_cl [(tc 0, .int), (tc 1, .boolean), (tc 2, .short), (tc 3, .byte), (tc 6, .object "EventHunter$Pattern")] U ∧
  (ArrOfT U (tc 4) (.array .short) ∧ ∃ k kc, U.vm.classes[tc 4]? = some k ∧ k.kind = .array (tc 2) (.array .short) ∧ U.vm.classes[tc 2]? = some kc) ∧
  (ArrOfT U (tc 5) (.array .byte) ∧ ∃ k kc, U.vm.classes[tc 5]? = some k ∧ k.kind = .array (tc 3) (.array .byte) ∧ U.vm.classes[tc 3]? = some kc) ∧
  (∀ t ∈ eh_nwF, va_Nw (.fieldLinkNest t.1 t.2.1 t.2.2.1 t.2.2.2.1 t.2.2.2.2 "EventHunter") U) ∧
  ∀ t ∈ eh_nwM, va_Nw (.methodLinkNest t.1 t.2.1 t.2.2 "EventHunter") U
theorem eh_K.warm {D : va_G} {tc : Nat → ClassId} {s U : State} (hW : s.WarmedH U.vm) (h : eh_K D tc s) : eh_K D tc U := by
  obtain ⟨h1, ⟨h2, k, kc, a1, a2, a3⟩, ⟨h3, k', kc', b1, b2, b3⟩, h4, h5⟩ := h
  have hal := hW.alike
  refine ⟨va_K.moved hal h1, ⟨arrOfT_moved hal h2, ?_⟩, ⟨arrOfT_moved hal h3, ?_⟩, fun t ht => va_Nw.warmF hW (h4 t ht), fun t ht => va_Nw.warmM hW (h5 t ht)⟩
  · obtain ⟨k1, c1, e1⟩ := hal.2.2 _ _ a1
    obtain ⟨k2, c2, e2⟩ := hal.2.2 _ _ a3
    exact ⟨k1, k2, c1, by rw [e1]; exact a2, c2⟩
  · obtain ⟨k1, c1, e1⟩ := hal.2.2 _ _ b1
    obtain ⟨k2, c2, e2⟩ := hal.2.2 _ _ b3
    exact ⟨k1, k2, c1, by rw [e1]; exact b2, c2⟩
theorem eh_K.same {D : va_G} {tc : Nat → ClassId} {s U : State} (hv : s.vm = U.vm) (h : eh_K D tc s) : eh_K D tc U := by
  obtain ⟨h1, ⟨h2, h2'⟩, ⟨h3, h3'⟩, h4, h5⟩ := h
  have hal : s.vm.Alike U.vm := by rw [hv]; exact Vm.Alike.refl _
  refine ⟨va_K.moved hal h1, ⟨arrOfT_moved hal h2, by rw [← hv]; exact h2'⟩, ⟨arrOfT_moved hal h3, by rw [← hv]; exact h3'⟩, fun t ht => va_Nw.same rfl hv (h4 t ht), fun t ht => va_Nw.same rfl hv (h5 t ht)⟩
section EHJ
variable {p : Program} {l : Launch} {e : Env} {R : Room} {s : State} {m : MethodId} {args : Array Value} {below : List Frame} {meth : Method} {c : Code}
/-- the judgement over abstract states -/
def eh_J (p : Program) (l : Launch) (e : Env) (R : Room) (s : State) (m : MethodId) (args : Array Value) (below : List Frame) (meth : Method) (c : Code) (Q : State → Prop) (D : va_G) (tc : Nat → ClassId) (ad : Nat → Int → Nat) (NL : eh_S → List (Nat × Int)) (A : Nat → Prop) (nL : Nat) : eh_X := fun pc ls st σ b =>
  ∀ H locs la, eh_ok σ → va_P D eh_cl (eh_w ad tc NL σ) H → va_D A (eh_w ad tc NL σ) → va_S A s.heap H locs → eh_lv ad la nL ls → W p l e R s m args below meth c H locs b.1 b.2 Q (F0 m pc la (st.map (eh_v ad)))
/-- a call by its transformer, at the machine -/
def eh_CO (p : Program) (l : Launch) (e : Env) (R : Room) (s : State) (m : MethodId) (args : Array Value) (below : List Frame) (meth : Method) (c : Code) (Q : State → Prop) (D : va_G) (tc : Nat → ClassId) (ad : Nat → Int → Nat) (NL : eh_S → List (Nat × Int)) (A : Nat → Prop) (nL : Nat) (cc : ByteArray) (i : Instr) (n : Nat) (T : eh_T) : Prop :=
  ∀ (pc : Nat) (as rest : List eh_V) (σ : eh_S) (b bd : Nat × Nat) (K : Option eh_V → eh_S → Prop) (H : Heap) (locs : List Loc) (la : Array Slot), decode cc pc = .ok (i, 3) → as.length = n → rest.length ≤ 8 → b.1 + bd.1 ≤ R.cells → b.2 + bd.2 ≤ R.slots → T as σ bd K →
    eh_ok σ → va_P D eh_cl (eh_w ad tc NL σ) H → va_D A (eh_w ad tc NL σ) → va_S A s.heap H locs → la.size = nL →
    (∀ (r : Option eh_V) (σ' : eh_S) (H1 : Heap) (locs1 : List Loc), K r σ' → eh_ok σ' → va_P D eh_cl (eh_w ad tc NL σ') H1 → va_D A (eh_w ad tc NL σ') → va_S A s.heap H1 locs1 → W p l e R s m args below meth c H1 locs1 (b.1 + bd.1) (b.2 + bd.2) Q (F0 m (pc + 3) la ((r.toList ++ rest).map (eh_v ad)))) →
    W p l e R s m args below meth c H locs b.1 b.2 Q (F0 m pc la ((as.reverse ++ rest).map (eh_v ad)))
theorem eh_insD {A : Nat → Prop} {l1 l2 : va_W} {x : Nat × va_E} (h : va_D A (l1 ++ l2)) (hx : ∀ q ∈ l1 ++ l2, q.1 ≠ x.1) (hA : A x.1) : va_D A (l1 ++ x :: l2) := by
  have key : ∀ (k : Nat) (q : Nat × va_E), (l1 ++ x :: l2)[k]? = some q → (k = l1.length ∧ q = x) ∨ (k < l1.length ∧ (l1 ++ l2)[k]? = some q) ∨ (l1.length < k ∧ (l1 ++ l2)[k - 1]? = some q) := by
    intro k q hk
    rcases Nat.lt_trichotomy k l1.length with h1 | h1 | h1
    · right; left
      rw [List.getElem?_append_left h1] at hk
      exact ⟨h1, by rw [List.getElem?_append_left h1]; exact hk⟩
    · left
      subst h1
      rw [List.getElem?_append_right (Nat.le_refl _), Nat.sub_self] at hk
      exact ⟨rfl, (Option.some.inj hk).symm⟩
    · right; right
      rw [List.getElem?_append_right (by omega), show k - l1.length = (k - 1 - l1.length) + 1 by omega, List.getElem?_cons_succ] at hk
      exact ⟨h1, by rw [List.getElem?_append_right (by omega)]; exact hk⟩
  refine ⟨fun i j a b hi hj hab => ?_, fun k q hk => ?_⟩
  · rcases key i a hi with ⟨i1, rfl⟩ | ⟨i1, i2⟩ | ⟨i1, i2⟩ <;> rcases key j b hj with ⟨j1, rfl⟩ | ⟨j1, j2⟩ | ⟨j1, j2⟩
    · omega
    · exact absurd hab.symm (hx b (List.mem_of_getElem? j2))
    · exact absurd hab.symm (hx b (List.mem_of_getElem? j2))
    · exact absurd hab (hx a (List.mem_of_getElem? i2))
    · exact h.1 i j a b i2 j2 hab
    · have := h.1 i (j - 1) a b i2 j2 hab
      omega
    · exact absurd hab (hx a (List.mem_of_getElem? i2))
    · have := h.1 (i - 1) j a b i2 j2 hab
      omega
    · have := h.1 (i - 1) (j - 1) a b i2 j2 hab
      omega
  · rcases key k q hk with ⟨-, rfl⟩ | ⟨-, h2⟩ | ⟨-, h2⟩
    · exact hA
    · exact h.2 k q h2
    · exact h.2 (k - 1) q h2
variable {D : va_G} {tc : Nat → ClassId} {ad : Nat → Int → Nat} {NL : eh_S → List (Nat × Int)} {nm : Nat → Nat} {A : Nat → Prop} {nL : Nat} {cc : ByteArray} {Q : State → Prop}
/-- a cell of the world changes: the world's list behind it -/
theorem eh_put {σ σ' : eh_S} {q0 : Nat} {n : Nat × Int} {e' : Nat × va_E} {H1 : Heap} (hq : (NL σ)[q0]? = some n) (hN : NL σ' = NL σ) (hD : va_D A (eh_w ad tc NL σ)) (ho : ∀ n', n' ≠ n → eh_c ad tc σ' n' = eh_c ad tc σ n') (he : eh_c ad tc σ' n = e') (hP1 : va_P D eh_cl ((eh_w ad tc NL σ).set q0 e') H1) (hD1 : va_D A ((eh_w ad tc NL σ).set q0 e')) : va_P D eh_cl (eh_w ad tc NL σ') H1 ∧ va_D A (eh_w ad tc NL σ') := by
  subst he
  rw [eh_w_set hq hN hD ho] at hP1 hD1
  exact ⟨hP1, hD1⟩
end EHJ
