/-! words of nest mates, field entries of the pools: printed by gen_links.py -/
set_option maxRecDepth 100000
abbrev eh_nwF : List (String × Nat × String × String × String) := [("EventHunter", 184, "EventHunter$Web", "event", "[I"), ("EventHunter", 202, "EventHunter$Web", "step", "[I"), ("EventHunter", 187, "EventHunter$Web", "before", "[I"), ("EventHunter", 85, "EventHunter$Pattern", "within", "I"), ("EventHunter", 87, "EventHunter$Pattern", "way", "I"), ("EventHunter", 90, "EventHunter$Pattern", "key", "I"), ("EventHunter", 93, "EventHunter$Pattern", "steps", "I"), ("EventHunter", 96, "EventHunter$Pattern", "sort", "[I"), ("EventHunter", 113, "EventHunter$Pattern", "of", "[I"), ("EventHunter", 116, "EventHunter$Pattern", "test", "[I"), ("EventHunter", 119, "EventHunter$Pattern", "by", "[I"), ("EventHunter", 122, "EventHunter$Pattern", "with", "[I"), ("EventHunter", 81, "EventHunter$Pattern", "isBegun", "Z"), ("EventHunter", 152, "EventHunter$Pattern", "isSpent", "Z"), ("EventHunter", 110, "EventHunter$Pattern", "since", "I"), ("EventHunter", 162, "EventHunter$Pattern", "told", "I"), ("EventHunter", 181, "EventHunter$Pattern", "run", "[I"), ("EventHunter", 190, "EventHunter$Pattern", "hurt", "[Z"), ("EventHunter", 178, "EventHunter$Pattern", "runs", "I"), ("EventHunter$Plain", 88, "EventHunter$Pattern", "within", "I"), ("EventHunter$Plain", 72, "EventHunter$Pattern", "steps", "I"), ("EventHunter$Plain", 75, "EventHunter$Pattern", "sort", "[I"), ("EventHunter$Plain", 49, "EventHunter$Pattern", "of", "[I"), ("EventHunter$Plain", 65, "EventHunter$Pattern", "test", "[I"), ("EventHunter$Plain", 62, "EventHunter$Pattern", "by", "[I"), ("EventHunter$Plain", 56, "EventHunter$Pattern", "with", "[I"), ("EventHunter$Plain", 30, "EventHunter$Pattern", "since", "I"), ("EventHunter$Plain", 46, "EventHunter", "kind", "[I"), ("EventHunter$Plain", 85, "EventHunter", "minute", "[I"), ("EventHunter$Plain", 59, "EventHunter", "field", "[I"), ("EventHunter$Plain", 35, "EventHunter", "taken", "I"), ("EventHunter$Pattern", 102, "EventHunter$Web", "event", "[I"), ("EventHunter$Pattern", 58, "EventHunter$Web", "step", "[I"), ("EventHunter$Pattern", 105, "EventHunter$Web", "before", "[I"), ("EventHunter$Pattern", 38, "EventHunter", "kind", "[I"), ("EventHunter$Pattern", 111, "EventHunter", "minute", "[I"), ("EventHunter$Pattern", 45, "EventHunter", "field", "[I"), ("EventHunter$Pattern", 48, "EventHunter", "web", "LEventHunter$Web;"), ("EventHunter$Pattern", 85, "EventHunter", "matchPattern", "[I"), ("EventHunter$Pattern", 91, "EventHunter", "matchMany", "[I"), ("EventHunter$Pattern", 94, "EventHunter", "matchEvent", "[[S"), ("EventHunter$Pattern", 98, "EventHunter", "matchStep", "[[B"), ("EventHunter$Pattern", 79, "EventHunter", "matches", "I"), ("EventHunter$Pattern", 88, "EventHunter", "here", "I")]
abbrev eh_nwM : List (String × Nat × MethodName) := [("EventHunter", 30, ⟨"EventHunter$Web", "<init>", "()V"⟩), ("EventHunter", 61, ⟨"EventHunter$Plain", "<init>", "(LEventHunter;)V"⟩), ("EventHunter", 72, ⟨"EventHunter$Pattern", "<init>", "(LEventHunter;)V"⟩), ("EventHunter$Plain", 52, ⟨"EventHunter", "isKind", "(II)Z"⟩), ("EventHunter$Pattern", 41, ⟨"EventHunter", "isKind", "(II)Z"⟩)]
theorem eh_nwF_tbl : ∀ t ∈ eh_nwF, Cond.fieldLinkNest t.1 t.2.1 t.2.2.1 t.2.2.2.1 t.2.2.2.2 "EventHunter" ∈ lw_tbl := List.forall_mem_cons.mpr ⟨q69, List.forall_mem_cons.mpr ⟨q72, List.forall_mem_cons.mpr ⟨q75, List.forall_mem_cons.mpr ⟨q126, List.forall_mem_cons.mpr ⟨q129, List.forall_mem_cons.mpr ⟨q132, List.forall_mem_cons.mpr ⟨q135, List.forall_mem_cons.mpr ⟨q138, List.forall_mem_cons.mpr ⟨q141, List.forall_mem_cons.mpr ⟨q144, List.forall_mem_cons.mpr ⟨q147, List.forall_mem_cons.mpr ⟨q150, List.forall_mem_cons.mpr ⟨q151, List.forall_mem_cons.mpr ⟨q153, List.forall_mem_cons.mpr ⟨q155, List.forall_mem_cons.mpr ⟨q157, List.forall_mem_cons.mpr ⟨q159, List.forall_mem_cons.mpr ⟨q161, List.forall_mem_cons.mpr ⟨q163, List.forall_mem_cons.mpr ⟨q128, List.forall_mem_cons.mpr ⟨q134, List.forall_mem_cons.mpr ⟨q137, List.forall_mem_cons.mpr ⟨q140, List.forall_mem_cons.mpr ⟨q143, List.forall_mem_cons.mpr ⟨q146, List.forall_mem_cons.mpr ⟨q149, List.forall_mem_cons.mpr ⟨q154, List.forall_mem_cons.mpr ⟨q204, List.forall_mem_cons.mpr ⟨q207, List.forall_mem_cons.mpr ⟨q211, List.forall_mem_cons.mpr ⟨q212, List.forall_mem_cons.mpr ⟨q68, List.forall_mem_cons.mpr ⟨q71, List.forall_mem_cons.mpr ⟨q74, List.forall_mem_cons.mpr ⟨q202, List.forall_mem_cons.mpr ⟨q206, List.forall_mem_cons.mpr ⟨q209, List.forall_mem_cons.mpr ⟨q218, List.forall_mem_cons.mpr ⟨q221, List.forall_mem_cons.mpr ⟨q223, List.forall_mem_cons.mpr ⟨q225, List.forall_mem_cons.mpr ⟨q227, List.forall_mem_cons.mpr ⟨q228, List.forall_mem_cons.mpr ⟨q230, fun _ h => absurd h List.not_mem_nil⟩⟩⟩⟩⟩⟩⟩⟩⟩⟩⟩⟩⟩⟩⟩⟩⟩⟩⟩⟩⟩⟩⟩⟩⟩⟩⟩⟩⟩⟩⟩⟩⟩⟩⟩⟩⟩⟩⟩⟩⟩⟩⟩⟩
theorem eh_nwM_tbl : ∀ t ∈ eh_nwM, Cond.methodLinkNest t.1 t.2.1 t.2.2 "EventHunter" ∈ lw_tbl := List.forall_mem_cons.mpr ⟨q62, List.forall_mem_cons.mpr ⟨q101, List.forall_mem_cons.mpr ⟨q122, List.forall_mem_cons.mpr ⟨q469, List.forall_mem_cons.mpr ⟨q358, fun _ h => absurd h List.not_mem_nil⟩⟩⟩⟩⟩
def eh_fok (own : String) (idx c k : Nat) : Prop := c < 5 ∧ ∀ C T N, eh_cl[c]? = some (C, T, N) → k < N ∧ ((Cond.fieldLink own idx (T k).1 (T k).2.1 (T k).2.2.1) ∈ lw_all ∨ (own, idx, (T k).1, (T k).2.1, (T k).2.2.1) ∈ eh_nwF)
def eh_cok (c : Nat) : Prop := ∃ (C : String) (T : u_T) (N : Nat) (ty : Nat → FieldType), eh_cl[c]? = some (C, T, N) ∧ (eh_ft c).length = N ∧ (∀ k, k < N → parseFieldDescriptor (T k).2.2.1 = some (ty k)) ∧ (∀ a, a < N → ∀ b, b < N → a ≠ b → (T a).2.1 ≠ (T b).2.1) ∧ (∀ w ∈ u_ws C T N, w ∈ lw_all) ∧
  ∀ k, k < N → ((eh_ft c).getD k 9 = 0 → ty k = .int ∧ (T k).2.2.2 = false) ∧ ((eh_ft c).getD k 9 = 1 → ty k = .boolean ∧ (T k).2.2.2 = false) ∧ ((eh_ft c).getD k 9 = 3 → ty k = .object "EventHunter$Pattern" ∧ (T k).2.2.2 = false)
theorem eh_cok0 : eh_cok 0 := ⟨RX0, TX0, 21, tyX0, rfl, rfl, tyX0_ok, nmX0, in_X0, by decide +kernel⟩
theorem eh_cok1 : eh_cok 1 := ⟨RX1, TX1, 6, tyX1, rfl, rfl, tyX1_ok, nmX1, in_X1, by decide +kernel⟩
theorem eh_cok2 : eh_cok 2 := ⟨RX2, TX2, 5, tyX2, rfl, rfl, tyX2_ok, nmX2, in_X2, by decide +kernel⟩
theorem eh_cok3 : eh_cok 3 := ⟨RX3, TX3, 17, tyX3, rfl, rfl, tyX3_ok, nmX3, in_X3, by decide +kernel⟩
theorem eh_cok4 : eh_cok 4 := ⟨RX4, TX4, 48, tyX4, rfl, rfl, tyX4_ok, nmX4, in_X4, by decide +kernel⟩
theorem eh_coks {c : Nat} (h : c < 5) : eh_cok c := by
  rcases (show c = 0 ∨ c = 1 ∨ c = 2 ∨ c = 3 ∨ c = 4 by omega) with rfl | rfl | rfl | rfl | rfl
  · exact eh_cok0
  · exact eh_cok1
  · exact eh_cok2
  · exact eh_cok3
  · exact eh_cok4
def eh_fl0 (idx : Nat) : Option (Nat × Nat) := match idx with
  | 3 => some (0, 0)
  | 13 => some (0, 1)
  | 16 => some (0, 2)
  | 19 => some (0, 3)
  | 22 => some (0, 4)
  | 25 => some (0, 9)
  | 31 => some (0, 10)
  | 35 => some (0, 11)
  | 38 => some (0, 12)
  | 43 => some (0, 13)
  | 49 => some (0, 14)
  | 55 => some (0, 17)
  | 64 => some (0, 19)
  | 68 => some (0, 20)
  | 73 => some (0, 18)
  | 81 => some (3, 9)
  | 85 => some (3, 0)
  | 87 => some (3, 1)
  | 90 => some (3, 2)
  | 93 => some (3, 3)
  | 96 => some (3, 4)
  | 107 => some (0, 5)
  | 110 => some (3, 11)
  | 113 => some (3, 5)
  | 116 => some (3, 6)
  | 119 => some (3, 7)
  | 122 => some (3, 8)
  | 126 => some (0, 8)
  | 129 => some (0, 7)
  | 132 => some (0, 6)
  | 149 => some (0, 16)
  | 152 => some (3, 10)
  | 159 => some (0, 15)
  | 162 => some (3, 12)
  | 178 => some (3, 15)
  | 181 => some (3, 13)
  | 184 => some (1, 0)
  | 187 => some (1, 2)
  | 190 => some (3, 14)
  | 202 => some (1, 1)
  | _ => none
theorem eh_fl0_ok (idx c k : Nat) (h : eh_fl0 idx = some (c, k)) : eh_fok RX0 idx c k := by
  unfold eh_fl0 at h
  split at h
  · cases h; exact ⟨by decide, fun C T N e => by cases e; exact ⟨by decide, Or.inl q201⟩⟩
  · cases h; exact ⟨by decide, fun C T N e => by cases e; exact ⟨by decide, Or.inl q203⟩⟩
  · cases h; exact ⟨by decide, fun C T N e => by cases e; exact ⟨by decide, Or.inl q205⟩⟩
  · cases h; exact ⟨by decide, fun C T N e => by cases e; exact ⟨by decide, Or.inl q208⟩⟩
  · cases h; exact ⟨by decide, fun C T N e => by cases e; exact ⟨by decide, Or.inl q210⟩⟩
  · cases h; exact ⟨by decide, fun C T N e => by cases e; exact ⟨by decide, Or.inl q217⟩⟩
  · cases h; exact ⟨by decide, fun C T N e => by cases e; exact ⟨by decide, Or.inl q219⟩⟩
  · cases h; exact ⟨by decide, fun C T N e => by cases e; exact ⟨by decide, Or.inl q220⟩⟩
  · cases h; exact ⟨by decide, fun C T N e => by cases e; exact ⟨by decide, Or.inl q222⟩⟩
  · cases h; exact ⟨by decide, fun C T N e => by cases e; exact ⟨by decide, Or.inl q224⟩⟩
  · cases h; exact ⟨by decide, fun C T N e => by cases e; exact ⟨by decide, Or.inl q226⟩⟩
  · cases h; exact ⟨by decide, fun C T N e => by cases e; exact ⟨by decide, Or.inl q232⟩⟩
  · cases h; exact ⟨by decide, fun C T N e => by cases e; exact ⟨by decide, Or.inl q234⟩⟩
  · cases h; exact ⟨by decide, fun C T N e => by cases e; exact ⟨by decide, Or.inl q235⟩⟩
  · cases h; exact ⟨by decide, fun C T N e => by cases e; exact ⟨by decide, Or.inl q233⟩⟩
  · cases h; exact ⟨by decide, fun C T N e => by cases e; exact ⟨by decide, Or.inr (List.mem_of_getElem? (i := 12) rfl)⟩⟩
  · cases h; exact ⟨by decide, fun C T N e => by cases e; exact ⟨by decide, Or.inr (List.mem_of_getElem? (i := 3) rfl)⟩⟩
  · cases h; exact ⟨by decide, fun C T N e => by cases e; exact ⟨by decide, Or.inr (List.mem_of_getElem? (i := 4) rfl)⟩⟩
  · cases h; exact ⟨by decide, fun C T N e => by cases e; exact ⟨by decide, Or.inr (List.mem_of_getElem? (i := 5) rfl)⟩⟩
  · cases h; exact ⟨by decide, fun C T N e => by cases e; exact ⟨by decide, Or.inr (List.mem_of_getElem? (i := 6) rfl)⟩⟩
  · cases h; exact ⟨by decide, fun C T N e => by cases e; exact ⟨by decide, Or.inr (List.mem_of_getElem? (i := 7) rfl)⟩⟩
  · cases h; exact ⟨by decide, fun C T N e => by cases e; exact ⟨by decide, Or.inl q213⟩⟩
  · cases h; exact ⟨by decide, fun C T N e => by cases e; exact ⟨by decide, Or.inr (List.mem_of_getElem? (i := 14) rfl)⟩⟩
  · cases h; exact ⟨by decide, fun C T N e => by cases e; exact ⟨by decide, Or.inr (List.mem_of_getElem? (i := 8) rfl)⟩⟩
  · cases h; exact ⟨by decide, fun C T N e => by cases e; exact ⟨by decide, Or.inr (List.mem_of_getElem? (i := 9) rfl)⟩⟩
  · cases h; exact ⟨by decide, fun C T N e => by cases e; exact ⟨by decide, Or.inr (List.mem_of_getElem? (i := 10) rfl)⟩⟩
  · cases h; exact ⟨by decide, fun C T N e => by cases e; exact ⟨by decide, Or.inr (List.mem_of_getElem? (i := 11) rfl)⟩⟩
  · cases h; exact ⟨by decide, fun C T N e => by cases e; exact ⟨by decide, Or.inl q216⟩⟩
  · cases h; exact ⟨by decide, fun C T N e => by cases e; exact ⟨by decide, Or.inl q215⟩⟩
  · cases h; exact ⟨by decide, fun C T N e => by cases e; exact ⟨by decide, Or.inl q214⟩⟩
  · cases h; exact ⟨by decide, fun C T N e => by cases e; exact ⟨by decide, Or.inl q231⟩⟩
  · cases h; exact ⟨by decide, fun C T N e => by cases e; exact ⟨by decide, Or.inr (List.mem_of_getElem? (i := 13) rfl)⟩⟩
  · cases h; exact ⟨by decide, fun C T N e => by cases e; exact ⟨by decide, Or.inl q229⟩⟩
  · cases h; exact ⟨by decide, fun C T N e => by cases e; exact ⟨by decide, Or.inr (List.mem_of_getElem? (i := 15) rfl)⟩⟩
  · cases h; exact ⟨by decide, fun C T N e => by cases e; exact ⟨by decide, Or.inr (List.mem_of_getElem? (i := 18) rfl)⟩⟩
  · cases h; exact ⟨by decide, fun C T N e => by cases e; exact ⟨by decide, Or.inr (List.mem_of_getElem? (i := 16) rfl)⟩⟩
  · cases h; exact ⟨by decide, fun C T N e => by cases e; exact ⟨by decide, Or.inr (List.mem_of_getElem? (i := 0) rfl)⟩⟩
  · cases h; exact ⟨by decide, fun C T N e => by cases e; exact ⟨by decide, Or.inr (List.mem_of_getElem? (i := 2) rfl)⟩⟩
  · cases h; exact ⟨by decide, fun C T N e => by cases e; exact ⟨by decide, Or.inr (List.mem_of_getElem? (i := 17) rfl)⟩⟩
  · cases h; exact ⟨by decide, fun C T N e => by cases e; exact ⟨by decide, Or.inr (List.mem_of_getElem? (i := 1) rfl)⟩⟩
  · cases h
def eh_kn0 (idx : Nat) : Option Int := match idx with
  | 125 => some 100000
  | 148 => some 200000
  | _ => none
theorem eh_kn0_ok (idx : Nat) (z : Int) (h : eh_kn0 idx = some z) : Cond.constant RX0 idx (eh_i z) ∈ lw_all := by
  unfold eh_kn0 at h
  split at h
  · cases h; exact q305
  · cases h; exact q325
  · cases h
def eh_fl1 (idx : Nat) : Option (Nat × Nat) := match idx with
  | 10 => some (1, 0)
  | 16 => some (1, 1)
  | 19 => some (1, 2)
  | 22 => some (1, 3)
  | 25 => some (1, 4)
  | 29 => some (1, 5)
  | _ => none
theorem eh_fl1_ok (idx c k : Nat) (h : eh_fl1 idx = some (c, k)) : eh_fok RX1 idx c k := by
  unfold eh_fl1 at h
  split at h
  · cases h; exact ⟨by decide, fun C T N e => by cases e; exact ⟨by decide, Or.inl q67⟩⟩
  · cases h; exact ⟨by decide, fun C T N e => by cases e; exact ⟨by decide, Or.inl q70⟩⟩
  · cases h; exact ⟨by decide, fun C T N e => by cases e; exact ⟨by decide, Or.inl q73⟩⟩
  · cases h; exact ⟨by decide, fun C T N e => by cases e; exact ⟨by decide, Or.inl q76⟩⟩
  · cases h; exact ⟨by decide, fun C T N e => by cases e; exact ⟨by decide, Or.inl q77⟩⟩
  · cases h; exact ⟨by decide, fun C T N e => by cases e; exact ⟨by decide, Or.inl q78⟩⟩
  · cases h
def eh_kn1 (idx : Nat) : Option Int := match idx with
  | 9 => some 38424
  | _ => none
theorem eh_kn1_ok (idx : Nat) (z : Int) (h : eh_kn1 idx = some z) : Cond.constant RX1 idx (eh_i z) ∈ lw_all := by
  unfold eh_kn1 at h
  split at h
  · cases h; exact q66
  · cases h
def eh_fl2 (idx : Nat) : Option (Nat × Nat) := match idx with
  | 3 => some (2, 4)
  | 15 => some (2, 0)
  | 19 => some (2, 1)
  | 22 => some (2, 2)
  | 26 => some (2, 3)
  | 30 => some (3, 11)
  | 35 => some (0, 5)
  | 46 => some (0, 1)
  | 49 => some (3, 5)
  | 56 => some (3, 8)
  | 59 => some (0, 4)
  | 62 => some (3, 7)
  | 65 => some (3, 6)
  | 72 => some (3, 3)
  | 75 => some (3, 4)
  | 85 => some (0, 2)
  | 88 => some (3, 0)
  | _ => none
theorem eh_fl2_ok (idx c k : Nat) (h : eh_fl2 idx = some (c, k)) : eh_fok RX2 idx c k := by
  unfold eh_fl2 at h
  split at h
  · cases h; exact ⟨by decide, fun C T N e => by cases e; exact ⟨by decide, Or.inl q109⟩⟩
  · cases h; exact ⟨by decide, fun C T N e => by cases e; exact ⟨by decide, Or.inl q105⟩⟩
  · cases h; exact ⟨by decide, fun C T N e => by cases e; exact ⟨by decide, Or.inl q106⟩⟩
  · cases h; exact ⟨by decide, fun C T N e => by cases e; exact ⟨by decide, Or.inl q107⟩⟩
  · cases h; exact ⟨by decide, fun C T N e => by cases e; exact ⟨by decide, Or.inl q108⟩⟩
  · cases h; exact ⟨by decide, fun C T N e => by cases e; exact ⟨by decide, Or.inr (List.mem_of_getElem? (i := 26) rfl)⟩⟩
  · cases h; exact ⟨by decide, fun C T N e => by cases e; exact ⟨by decide, Or.inr (List.mem_of_getElem? (i := 30) rfl)⟩⟩
  · cases h; exact ⟨by decide, fun C T N e => by cases e; exact ⟨by decide, Or.inr (List.mem_of_getElem? (i := 27) rfl)⟩⟩
  · cases h; exact ⟨by decide, fun C T N e => by cases e; exact ⟨by decide, Or.inr (List.mem_of_getElem? (i := 22) rfl)⟩⟩
  · cases h; exact ⟨by decide, fun C T N e => by cases e; exact ⟨by decide, Or.inr (List.mem_of_getElem? (i := 25) rfl)⟩⟩
  · cases h; exact ⟨by decide, fun C T N e => by cases e; exact ⟨by decide, Or.inr (List.mem_of_getElem? (i := 29) rfl)⟩⟩
  · cases h; exact ⟨by decide, fun C T N e => by cases e; exact ⟨by decide, Or.inr (List.mem_of_getElem? (i := 24) rfl)⟩⟩
  · cases h; exact ⟨by decide, fun C T N e => by cases e; exact ⟨by decide, Or.inr (List.mem_of_getElem? (i := 23) rfl)⟩⟩
  · cases h; exact ⟨by decide, fun C T N e => by cases e; exact ⟨by decide, Or.inr (List.mem_of_getElem? (i := 20) rfl)⟩⟩
  · cases h; exact ⟨by decide, fun C T N e => by cases e; exact ⟨by decide, Or.inr (List.mem_of_getElem? (i := 21) rfl)⟩⟩
  · cases h; exact ⟨by decide, fun C T N e => by cases e; exact ⟨by decide, Or.inr (List.mem_of_getElem? (i := 28) rfl)⟩⟩
  · cases h; exact ⟨by decide, fun C T N e => by cases e; exact ⟨by decide, Or.inr (List.mem_of_getElem? (i := 19) rfl)⟩⟩
  · cases h
def eh_kn2 (_ : Nat) : Option Int := none
theorem eh_kn2_ok (idx : Nat) (z : Int) (h : eh_kn2 idx = some z) : Cond.constant RX2 idx (eh_i z) ∈ lw_all := by
  unfold eh_kn2 at h
  cases h
def eh_fl3 (idx : Nat) : Option (Nat × Nat) := match idx with
  | 3 => some (3, 16)
  | 15 => some (3, 4)
  | 19 => some (3, 5)
  | 22 => some (3, 6)
  | 25 => some (3, 7)
  | 28 => some (3, 8)
  | 31 => some (3, 13)
  | 34 => some (3, 14)
  | 38 => some (0, 1)
  | 45 => some (0, 4)
  | 48 => some (0, 10)
  | 58 => some (1, 1)
  | 61 => some (3, 3)
  | 65 => some (3, 2)
  | 76 => some (3, 12)
  | 79 => some (0, 15)
  | 85 => some (0, 11)
  | 88 => some (0, 16)
  | 91 => some (0, 12)
  | 94 => some (0, 13)
  | 98 => some (0, 14)
  | 102 => some (1, 0)
  | 105 => some (1, 2)
  | 108 => some (3, 15)
  | 111 => some (0, 2)
  | 117 => some (3, 0)
  | 124 => some (3, 10)
  | 155 => some (3, 1)
  | _ => none
theorem eh_fl3_ok (idx c k : Nat) (h : eh_fl3 idx = some (c, k)) : eh_fok RX3 idx c k := by
  unfold eh_fl3 at h
  split at h
  · cases h; exact ⟨by decide, fun C T N e => by cases e; exact ⟨by decide, Or.inl q164⟩⟩
  · cases h; exact ⟨by decide, fun C T N e => by cases e; exact ⟨by decide, Or.inl q136⟩⟩
  · cases h; exact ⟨by decide, fun C T N e => by cases e; exact ⟨by decide, Or.inl q139⟩⟩
  · cases h; exact ⟨by decide, fun C T N e => by cases e; exact ⟨by decide, Or.inl q142⟩⟩
  · cases h; exact ⟨by decide, fun C T N e => by cases e; exact ⟨by decide, Or.inl q145⟩⟩
  · cases h; exact ⟨by decide, fun C T N e => by cases e; exact ⟨by decide, Or.inl q148⟩⟩
  · cases h; exact ⟨by decide, fun C T N e => by cases e; exact ⟨by decide, Or.inl q158⟩⟩
  · cases h; exact ⟨by decide, fun C T N e => by cases e; exact ⟨by decide, Or.inl q160⟩⟩
  · cases h; exact ⟨by decide, fun C T N e => by cases e; exact ⟨by decide, Or.inr (List.mem_of_getElem? (i := 34) rfl)⟩⟩
  · cases h; exact ⟨by decide, fun C T N e => by cases e; exact ⟨by decide, Or.inr (List.mem_of_getElem? (i := 36) rfl)⟩⟩
  · cases h; exact ⟨by decide, fun C T N e => by cases e; exact ⟨by decide, Or.inr (List.mem_of_getElem? (i := 37) rfl)⟩⟩
  · cases h; exact ⟨by decide, fun C T N e => by cases e; exact ⟨by decide, Or.inr (List.mem_of_getElem? (i := 32) rfl)⟩⟩
  · cases h; exact ⟨by decide, fun C T N e => by cases e; exact ⟨by decide, Or.inl q133⟩⟩
  · cases h; exact ⟨by decide, fun C T N e => by cases e; exact ⟨by decide, Or.inl q131⟩⟩
  · cases h; exact ⟨by decide, fun C T N e => by cases e; exact ⟨by decide, Or.inl q156⟩⟩
  · cases h; exact ⟨by decide, fun C T N e => by cases e; exact ⟨by decide, Or.inr (List.mem_of_getElem? (i := 42) rfl)⟩⟩
  · cases h; exact ⟨by decide, fun C T N e => by cases e; exact ⟨by decide, Or.inr (List.mem_of_getElem? (i := 38) rfl)⟩⟩
  · cases h; exact ⟨by decide, fun C T N e => by cases e; exact ⟨by decide, Or.inr (List.mem_of_getElem? (i := 43) rfl)⟩⟩
  · cases h; exact ⟨by decide, fun C T N e => by cases e; exact ⟨by decide, Or.inr (List.mem_of_getElem? (i := 39) rfl)⟩⟩
  · cases h; exact ⟨by decide, fun C T N e => by cases e; exact ⟨by decide, Or.inr (List.mem_of_getElem? (i := 40) rfl)⟩⟩
  · cases h; exact ⟨by decide, fun C T N e => by cases e; exact ⟨by decide, Or.inr (List.mem_of_getElem? (i := 41) rfl)⟩⟩
  · cases h; exact ⟨by decide, fun C T N e => by cases e; exact ⟨by decide, Or.inr (List.mem_of_getElem? (i := 31) rfl)⟩⟩
  · cases h; exact ⟨by decide, fun C T N e => by cases e; exact ⟨by decide, Or.inr (List.mem_of_getElem? (i := 33) rfl)⟩⟩
  · cases h; exact ⟨by decide, fun C T N e => by cases e; exact ⟨by decide, Or.inl q162⟩⟩
  · cases h; exact ⟨by decide, fun C T N e => by cases e; exact ⟨by decide, Or.inr (List.mem_of_getElem? (i := 35) rfl)⟩⟩
  · cases h; exact ⟨by decide, fun C T N e => by cases e; exact ⟨by decide, Or.inl q127⟩⟩
  · cases h; exact ⟨by decide, fun C T N e => by cases e; exact ⟨by decide, Or.inl q152⟩⟩
  · cases h; exact ⟨by decide, fun C T N e => by cases e; exact ⟨by decide, Or.inl q130⟩⟩
  · cases h
def eh_kn3 (_ : Nat) : Option Int := none
theorem eh_kn3_ok (idx : Nat) (z : Int) (h : eh_kn3 idx = some z) : Cond.constant RX3 idx (eh_i z) ∈ lw_all := by
  unfold eh_kn3 at h
  cases h
def eh_fl4 (idx : Nat) : Option (Nat × Nat) := match idx with
  | 7 => some (4, 1)
  | 13 => some (4, 2)
  | 16 => some (4, 4)
  | 19 => some (4, 5)
  | 22 => some (4, 6)
  | 25 => some (4, 7)
  | 28 => some (4, 9)
  | 31 => some (4, 10)
  | 34 => some (4, 11)
  | 37 => some (4, 12)
  | 40 => some (4, 16)
  | 43 => some (4, 17)
  | 46 => some (4, 18)
  | 49 => some (4, 19)
  | 52 => some (4, 20)
  | 55 => some (4, 21)
  | 59 => some (4, 22)
  | 62 => some (4, 23)
  | 65 => some (4, 24)
  | 68 => some (4, 25)
  | 71 => some (4, 26)
  | 74 => some (4, 27)
  | 77 => some (4, 28)
  | 80 => some (4, 29)
  | 83 => some (4, 30)
  | 86 => some (4, 31)
  | 90 => some (4, 32)
  | 93 => some (4, 33)
  | 96 => some (4, 34)
  | 99 => some (4, 36)
  | 102 => some (4, 37)
  | 105 => some (4, 38)
  | 108 => some (4, 39)
  | 111 => some (4, 40)
  | 114 => some (4, 41)
  | 117 => some (4, 43)
  | 120 => some (4, 45)
  | 123 => some (4, 46)
  | 126 => some (4, 47)
  | 133 => some (4, 15)
  | 154 => some (4, 8)
  | 160 => some (4, 42)
  | 167 => some (4, 35)
  | 170 => some (4, 44)
  | 208 => some (4, 3)
  | 211 => some (4, 13)
  | 214 => some (4, 14)
  | _ => none
theorem eh_fl4_ok (idx c k : Nat) (h : eh_fl4 idx = some (c, k)) : eh_fok RX4 idx c k := by
  unfold eh_fl4 at h
  split at h
  · cases h; exact ⟨by decide, fun C T N e => by cases e; exact ⟨by decide, Or.inl q507⟩⟩
  · cases h; exact ⟨by decide, fun C T N e => by cases e; exact ⟨by decide, Or.inl q508⟩⟩
  · cases h; exact ⟨by decide, fun C T N e => by cases e; exact ⟨by decide, Or.inl q510⟩⟩
  · cases h; exact ⟨by decide, fun C T N e => by cases e; exact ⟨by decide, Or.inl q511⟩⟩
  · cases h; exact ⟨by decide, fun C T N e => by cases e; exact ⟨by decide, Or.inl q512⟩⟩
  · cases h; exact ⟨by decide, fun C T N e => by cases e; exact ⟨by decide, Or.inl q513⟩⟩
  · cases h; exact ⟨by decide, fun C T N e => by cases e; exact ⟨by decide, Or.inl q515⟩⟩
  · cases h; exact ⟨by decide, fun C T N e => by cases e; exact ⟨by decide, Or.inl q516⟩⟩
  · cases h; exact ⟨by decide, fun C T N e => by cases e; exact ⟨by decide, Or.inl q517⟩⟩
  · cases h; exact ⟨by decide, fun C T N e => by cases e; exact ⟨by decide, Or.inl q518⟩⟩
  · cases h; exact ⟨by decide, fun C T N e => by cases e; exact ⟨by decide, Or.inl q522⟩⟩
  · cases h; exact ⟨by decide, fun C T N e => by cases e; exact ⟨by decide, Or.inl q523⟩⟩
  · cases h; exact ⟨by decide, fun C T N e => by cases e; exact ⟨by decide, Or.inl q524⟩⟩
  · cases h; exact ⟨by decide, fun C T N e => by cases e; exact ⟨by decide, Or.inl q525⟩⟩
  · cases h; exact ⟨by decide, fun C T N e => by cases e; exact ⟨by decide, Or.inl q526⟩⟩
  · cases h; exact ⟨by decide, fun C T N e => by cases e; exact ⟨by decide, Or.inl q527⟩⟩
  · cases h; exact ⟨by decide, fun C T N e => by cases e; exact ⟨by decide, Or.inl q528⟩⟩
  · cases h; exact ⟨by decide, fun C T N e => by cases e; exact ⟨by decide, Or.inl q529⟩⟩
  · cases h; exact ⟨by decide, fun C T N e => by cases e; exact ⟨by decide, Or.inl q530⟩⟩
  · cases h; exact ⟨by decide, fun C T N e => by cases e; exact ⟨by decide, Or.inl q531⟩⟩
  · cases h; exact ⟨by decide, fun C T N e => by cases e; exact ⟨by decide, Or.inl q532⟩⟩
  · cases h; exact ⟨by decide, fun C T N e => by cases e; exact ⟨by decide, Or.inl q533⟩⟩
  · cases h; exact ⟨by decide, fun C T N e => by cases e; exact ⟨by decide, Or.inl q534⟩⟩
  · cases h; exact ⟨by decide, fun C T N e => by cases e; exact ⟨by decide, Or.inl q535⟩⟩
  · cases h; exact ⟨by decide, fun C T N e => by cases e; exact ⟨by decide, Or.inl q536⟩⟩
  · cases h; exact ⟨by decide, fun C T N e => by cases e; exact ⟨by decide, Or.inl q537⟩⟩
  · cases h; exact ⟨by decide, fun C T N e => by cases e; exact ⟨by decide, Or.inl q538⟩⟩
  · cases h; exact ⟨by decide, fun C T N e => by cases e; exact ⟨by decide, Or.inl q539⟩⟩
  · cases h; exact ⟨by decide, fun C T N e => by cases e; exact ⟨by decide, Or.inl q540⟩⟩
  · cases h; exact ⟨by decide, fun C T N e => by cases e; exact ⟨by decide, Or.inl q542⟩⟩
  · cases h; exact ⟨by decide, fun C T N e => by cases e; exact ⟨by decide, Or.inl q543⟩⟩
  · cases h; exact ⟨by decide, fun C T N e => by cases e; exact ⟨by decide, Or.inl q544⟩⟩
  · cases h; exact ⟨by decide, fun C T N e => by cases e; exact ⟨by decide, Or.inl q545⟩⟩
  · cases h; exact ⟨by decide, fun C T N e => by cases e; exact ⟨by decide, Or.inl q546⟩⟩
  · cases h; exact ⟨by decide, fun C T N e => by cases e; exact ⟨by decide, Or.inl q547⟩⟩
  · cases h; exact ⟨by decide, fun C T N e => by cases e; exact ⟨by decide, Or.inl q549⟩⟩
  · cases h; exact ⟨by decide, fun C T N e => by cases e; exact ⟨by decide, Or.inl q551⟩⟩
  · cases h; exact ⟨by decide, fun C T N e => by cases e; exact ⟨by decide, Or.inl q552⟩⟩
  · cases h; exact ⟨by decide, fun C T N e => by cases e; exact ⟨by decide, Or.inl q553⟩⟩
  · cases h; exact ⟨by decide, fun C T N e => by cases e; exact ⟨by decide, Or.inl q521⟩⟩
  · cases h; exact ⟨by decide, fun C T N e => by cases e; exact ⟨by decide, Or.inl q514⟩⟩
  · cases h; exact ⟨by decide, fun C T N e => by cases e; exact ⟨by decide, Or.inl q548⟩⟩
  · cases h; exact ⟨by decide, fun C T N e => by cases e; exact ⟨by decide, Or.inl q541⟩⟩
  · cases h; exact ⟨by decide, fun C T N e => by cases e; exact ⟨by decide, Or.inl q550⟩⟩
  · cases h; exact ⟨by decide, fun C T N e => by cases e; exact ⟨by decide, Or.inl q509⟩⟩
  · cases h; exact ⟨by decide, fun C T N e => by cases e; exact ⟨by decide, Or.inl q519⟩⟩
  · cases h; exact ⟨by decide, fun C T N e => by cases e; exact ⟨by decide, Or.inl q520⟩⟩
  · cases h
def eh_kn4 (idx : Nat) : Option Int := match idx with
  | 89 => some 38592
  | 207 => some 100000
  | 220 => some 200000
  | _ => none
theorem eh_kn4_ok (idx : Nat) (z : Int) (h : eh_kn4 idx = some z) : Cond.constant RX4 idx (eh_i z) ∈ lw_all := by
  unfold eh_kn4 at h
  split at h
  · cases h; exact q506
  · cases h; exact q688
  · cases h; exact q697
  · cases h
