/-! numbers: an int of the machine as the Int z that it stands for -/
def eh_i (z : Int) : Int32 := Int32.ofInt z
def eh_r (z : Int) : Prop := -2147483648 ≤ z ∧ z < 2147483648
def eh_wr (z : Int) : Int := (eh_i z).toInt
theorem eh_i_t {z : Int} (h : eh_r z) : (eh_i z).toInt = z := by
  obtain ⟨h1, h2⟩ := h
  exact Int32.toInt_ofInt_of_le (by omega) (by omega)
theorem eh_wr_eq {z : Int} (h : eh_r z) : eh_wr z = z := eh_i_t h
theorem eh_wr_r (z : Int) : eh_r (eh_wr z) := by
  have h1 := (eh_i z).toInt_lt
  have h2 := (eh_i z).le_toInt
  unfold eh_r eh_wr
  omega
theorem eh_t_r (x : Int32) : eh_r x.toInt := by
  have h1 := x.toInt_lt
  have h2 := x.le_toInt
  unfold eh_r
  omega
theorem eh_i_of (x : Int32) : eh_i x.toInt = x := Int32.ofInt_toInt x
theorem eh_i_wr (z : Int) : eh_i (eh_wr z) = eh_i z := eh_i_of _
theorem eh_i_add (a b : Int) : eh_i a + eh_i b = eh_i (a + b) := (Int32.ofInt_add a b).symm
theorem eh_i_sub (a b : Int) : eh_i a - eh_i b = eh_i (a - b) := (Int32.ofInt_sub a b).symm
theorem eh_i_mul (a b : Int) : eh_i a * eh_i b = eh_i (a * b) := (Int32.ofInt_mul a b).symm
theorem eh_i_lt {a b : Int} (ha : eh_r a) (hb : eh_r b) : eh_i a < eh_i b ↔ a < b := by rw [Int32.lt_iff_toInt_lt, eh_i_t ha, eh_i_t hb]
theorem eh_i_le {a b : Int} (ha : eh_r a) (hb : eh_r b) : eh_i a ≤ eh_i b ↔ a ≤ b := by rw [Int32.le_iff_toInt_le, eh_i_t ha, eh_i_t hb]
theorem eh_i_eq {a b : Int} (ha : eh_r a) (hb : eh_r b) : eh_i a = eh_i b ↔ a = b := by rw [← Int32.toInt_inj, eh_i_t ha, eh_i_t hb]
theorem eh_i_0 : eh_i 0 = 0 := rfl
theorem eh_r_0 : eh_r 0 := by unfold eh_r; omega
theorem eh_i_in {z : Int} {n : Nat} (h0 : 0 ≤ z) (h : z < n) (hn : n < 2147483648) : vp_in (eh_i z) n := by
  refine vp_in_iff.mpr ?_
  rw [eh_i_t (by unfold eh_r; omega)]
  exact ⟨h0, h⟩
theorem eh_i_cl {z : Int} (h0 : 0 ≤ z) (h1 : z < 2147483648) : (eh_i z).toNatClampNeg = z.toNat := by
  show (eh_i z).toInt.toNat = z.toNat
  rw [eh_i_t (by unfold eh_r; omega)]
/-! abstract values, states, the tables of the five classes -/
abbrev eh_V : Type := Int ⊕ Option (Nat × Int)
abbrev eh_S : Type := (Nat → Int → Int) × (Nat → Int → Int → Int)
abbrev eh_L : Type := List (Option eh_V)
abbrev eh_X : Type := Nat → eh_L → List eh_V → eh_S → Nat × Nat → Prop
abbrev eh_T : Type := List eh_V → eh_S → Nat × Nat → (Option eh_V → eh_S → Prop) → Prop
def eh_v (ad : Nat → Int → Nat) (v : eh_V) : Value := match v with
  | .inl z => .int (eh_i z)
  | .inr none => .null
  | .inr (some n) => .ref (ad n.1 n.2)
def eh_sV (σ : eh_S) (v : Nat) (i z : Int) : eh_S := (fun v' i' => if v' = v ∧ i' = i then z else σ.1 v' i', σ.2)
def eh_sA (σ : eh_S) (c : Nat) (i j z : Int) : eh_S := (σ.1, fun c' i' j' => if c' = c ∧ i' = i ∧ j' = j then z else σ.2 c' i' j')
/-- a stretch of an array copied into another (or the same) -/
def eh_sC (σ : eh_S) (c0 : Nat) (i0 : Int) (c1 : Nat) (i1 sp dp n : Int) : eh_S := (σ.1, fun c' i' j' => if c' = c1 ∧ i' = i1 ∧ dp ≤ j' ∧ j' < dp + n then σ.2 c0 i0 (sp + (j' - dp)) else σ.2 c' i' j')
/-- 0: int, 1: boolean, 2: its own array, 3: a pattern, 4 + c: the object of class c -/
def eh_ft (c : Nat) : List Nat := match c with
  | 0 => [2, 2, 2, 2, 2, 0, 0, 0, 0, 2, 5, 2, 2, 2, 2, 0, 0, 2, 0, 6, 2]
  | 1 => [2, 2, 2, 2, 0, 0]
  | 2 => [2, 2, 3, 0, 4]
  | 3 => [0, 0, 0, 0, 2, 2, 2, 2, 2, 1, 1, 0, 0, 2, 2, 0, 4]
  | 4 => [0, 2, 2, 0, 2, 2, 2, 2, 0, 2, 2, 2, 2, 0, 0, 0, 2, 2, 2, 2, 2, 2, 2, 2, 2, 2, 2, 2, 2, 2, 2, 2, 2, 2, 2, 0, 2, 2, 2, 2, 2, 2, 0, 2, 0, 2, 2, 2]
  | _ => []
def eh_fv (σ : eh_S) (c : Nat) (i : Int) (k : Nat) : eh_V := match (eh_ft c).getD k 0 with
  | 0 => .inl (σ.1 (100 * (c + 1) + k) i)
  | 1 => .inl (σ.1 (100 * (c + 1) + k) i)
  | 2 => .inr (some (100 * (c + 1) + k, i))
  | 3 => if σ.1 (100 * (c + 1) + k) i < 0 then .inr none else .inr (some (3, σ.1 (100 * (c + 1) + k) i))
  | n + 4 => .inr (some (n, 0))
/-- an array's kind (0 int, 1 boolean, 2 short, 3 byte, 4 short[], 5 byte[], 6 Pattern; 9 none) and length -/
def eh_al (c : Nat) : Nat × Nat := match c with
  | 100 => (0, 16)
  | 101 => (0, 1000)
  | 102 => (0, 1000)
  | 103 => (0, 1000)
  | 104 => (0, 4000)
  | 109 => (0, 4)
  | 111 => (0, 1000)
  | 112 => (0, 1000)
  | 113 => (4, 1000)
  | 114 => (5, 1000)
  | 117 => (6, 8)
  | 120 => (1, 1000)
  | 200 => (0, 38424)
  | 201 => (0, 38424)
  | 202 => (0, 38424)
  | 203 => (0, 38424)
  | 300 => (0, 12)
  | 301 => (0, 12)
  | 404 => (0, 6)
  | 405 => (0, 6)
  | 406 => (0, 6)
  | 407 => (0, 6)
  | 408 => (0, 6)
  | 413 => (0, 200)
  | 414 => (1, 200)
  | 501 => (0, 16)
  | 502 => (0, 4)
  | 504 => (0, 101)
  | 505 => (0, 101)
  | 506 => (0, 101)
  | 507 => (0, 404)
  | 509 => (0, 1000)
  | 510 => (0, 1000)
  | 511 => (0, 1000)
  | 512 => (0, 4000)
  | 516 => (0, 8)
  | 517 => (0, 8)
  | 518 => (0, 8)
  | 519 => (0, 8)
  | 520 => (0, 8)
  | 521 => (1, 8)
  | 522 => (1, 8)
  | 523 => (0, 8)
  | 524 => (0, 48)
  | 525 => (0, 48)
  | 526 => (0, 48)
  | 527 => (0, 48)
  | 528 => (0, 48)
  | 529 => (0, 8)
  | 530 => (0, 1608)
  | 531 => (1, 1608)
  | 532 => (0, 38592)
  | 533 => (0, 38592)
  | 534 => (1, 201)
  | 536 => (0, 1000)
  | 537 => (0, 1000)
  | 538 => (0, 24000)
  | 539 => (0, 24000)
  | 540 => (0, 25)
  | 541 => (0, 25)
  | 543 => (0, 8)
  | 545 => (1, 1000)
  | 546 => (0, 26)
  | 547 => (0, 26)
  | _ => (9, 0)
theorem eh_al_lt (c : Nat) : (eh_al c).2 < 2147483648 := by
  unfold eh_al
  split <;> decide
def eh_q (ad : Nat → Int → Nat) (σ : eh_S) (c : Nat) (i : Int) (j : Nat) : Option Nat := if c = 117 then (if j < 8 then some (ad 3 j) else none) else if σ.2 c i j < 0 then none else some (σ.2 c i j).toNat
/-- the cell of a name -/
def eh_c (ad : Nat → Int → Nat) (tc : Nat → ClassId) (σ : eh_S) (n : Nat × Int) : Nat × va_E :=
  if n.1 < 5 then (ad n.1 n.2, .inr (n.1, (List.range (eh_ft n.1).length).map (fun k => eh_v ad (eh_fv σ n.1 n.2 k))))
  else if n.1 = 10 then ((σ.2 12 0 n.2).toNat, .inl (tc 2, (σ.2 14 0 n.2).toNat, .inl (fun j => eh_i (σ.2 10 n.2 j))))
  else if n.1 = 11 then ((σ.2 13 0 n.2).toNat, .inl (tc 3, (σ.2 15 0 n.2).toNat, .inl (fun j => eh_i (σ.2 11 n.2 j))))
  else if (eh_al n.1).1 < 4 then (ad n.1 n.2, .inl (tc (eh_al n.1).1, (eh_al n.1).2, .inl (fun j => eh_i (σ.2 n.1 n.2 j))))
  else (ad n.1 n.2, .inl (tc (eh_al n.1).1, (eh_al n.1).2, .inr (.inr (.inr (.inr (fun j => eh_q ad σ n.1 n.2 j))))))
def eh_w (ad : Nat → Int → Nat) (tc : Nat → ClassId) (NL : eh_S → List (Nat × Int)) (σ : eh_S) : va_W := (NL σ).map (eh_c ad tc σ)
def eh_ok (σ : eh_S) : Prop := (∀ v i, eh_r (σ.1 v i)) ∧ ∀ c i j, c ≠ 12 → c ≠ 13 → c ≠ 113 → c ≠ 114 → eh_r (σ.2 c i j)
abbrev eh_cl : List vw_C := [(RX0, TX0, 21), (RX1, TX1, 6), (RX2, TX2, 5), (RX3, TX3, 17), (RX4, TX4, 48)]
/-! what an instruction asks, and what it leads to -/
def eh_cmp (k : ClassFile.Cond) (x y : Int) : Prop := match k with
  | .eq => x = y
  | .ne => ¬ x = y
  | .lt => x < y
  | .ge => y ≤ x
  | .gt => y < x
  | .le => x ≤ y
def eh_or (a b : Int) : Int := if a = 0 then b else 1
def eh_ld (ls : eh_L) (i : Nat) (K : Int → Prop) : Prop := match ls[i]? with
  | some (some (.inl z)) => K z
  | _ => False
def eh_lr (ls : eh_L) (i : Nat) (K : Nat × Int → Prop) : Prop := match ls[i]? with
  | some (some (.inr (some n))) => K n
  | _ => False
def eh_1 (st : List eh_V) (K : Int → List eh_V → Prop) : Prop := match st with
  | .inl x :: st => K x st
  | _ => False
def eh_2 (st : List eh_V) (K : Int → Int → List eh_V → Prop) : Prop := match st with
  | .inl y :: .inl x :: st => K x y st
  | _ => False
def eh_1r (st : List eh_V) (K : Nat × Int → List eh_V → Prop) : Prop := match st with
  | .inr (some n) :: st => K n st
  | _ => False
/-- index and array -/
def eh_ar (st : List eh_V) (K : Nat → Int → Int → List eh_V → Prop) : Prop := match st with
  | .inl z :: .inr (some (c, i)) :: st => K c i z st
  | _ => False
/-- value, index and array -/
def eh_as (st : List eh_V) (K : Nat → Int → Int → Int → List eh_V → Prop) : Prop := match st with
  | .inl x :: .inl z :: .inr (some (c, i)) :: st => K c i z x st
  | _ => False
def eh_asr (st : List eh_V) (K : Nat → Int → Int → Nat × Int → List eh_V → Prop) : Prop := match st with
  | .inr (some n) :: .inl z :: .inr (some (c, i)) :: st => K c i z n st
  | _ => False
def eh_cp (st : List eh_V) (K : Nat → Int → Int → Nat → Int → Int → Int → List eh_V → Prop) : Prop := match st with
  | .inl n :: .inl dp :: .inr (some (c1, i1)) :: .inl sp :: .inr (some (c0, i0)) :: st => K c0 i0 sp c1 i1 dp n st
  | _ => False
/-- nm: how many there are of a kind; fl: field entries of the pool; kn: constants; cs, ss: methods, static methods; lim: the room for new cells; Rt: at the end; rb: 0 an int is returned, 1 a boolean, 2 nothing -/
def eh_wp (nm : Nat → Nat) (fl : Nat → Option (Nat × Nat)) (kn : Nat → Option Int) (cs ss : Nat → Option (Nat × eh_T)) (lim : Nat × Nat) (Rt : Option eh_V → eh_S → Prop) (rb : Nat)
    (i : Instr) (len pc : Nat) (ls : eh_L) (st : List eh_V) (σ : eh_S) (b : Nat × Nat) (X : eh_X) : Prop := match i with
  | .iconst n => len = 1 ∧ X (pc + 1) ls (.inl n :: st) σ b
  | .bipush n => len = 2 ∧ (-128 ≤ n ∧ n < 128) ∧ X (pc + 2) ls (.inl n :: st) σ b
  | .sipush n => len = 3 ∧ (-32768 ≤ n ∧ n < 32768) ∧ X (pc + 3) ls (.inl n :: st) σ b
  | .ldc k => len = 2 ∧ (match kn k with | some z => X (pc + 2) ls (.inl z :: st) σ b | none => False)
  | .iload_n k => len = 1 ∧ eh_ld ls k (fun z => X (pc + 1) ls (.inl z :: st) σ b)
  | .iload k => len = 2 ∧ eh_ld ls k (fun z => X (pc + 2) ls (.inl z :: st) σ b)
  | .aload_n k => len = 1 ∧ eh_lr ls k (fun n => X (pc + 1) ls (.inr (some n) :: st) σ b)
  | .aload k => len = 2 ∧ eh_lr ls k (fun n => X (pc + 2) ls (.inr (some n) :: st) σ b)
  | .istore_n k => len = 1 ∧ eh_1 st (fun z st => (k : Nat) < ls.length ∧ X (pc + 1) (ls.set k (some (.inl z))) st σ b)
  | .istore k => len = 2 ∧ eh_1 st (fun z st => k < ls.length ∧ X (pc + 2) (ls.set k (some (.inl z))) st σ b)
  | .astore_n k => len = 1 ∧ eh_1r st (fun n st => (k : Nat) < ls.length ∧ X (pc + 1) (ls.set k (some (.inr (some n)))) st σ b)
  | .astore k => len = 2 ∧ eh_1r st (fun n st => k < ls.length ∧ X (pc + 2) (ls.set k (some (.inr (some n)))) st σ b)
  | .iinc k n => len = 3 ∧ eh_ld ls k (fun z => X (pc + 3) (ls.set k (some (.inl (z + n)))) st σ b)
  | .iadd => len = 1 ∧ eh_2 st (fun x y st => X (pc + 1) ls (.inl (x + y) :: st) σ b)
  | .isub => len = 1 ∧ eh_2 st (fun x y st => X (pc + 1) ls (.inl (x - y) :: st) σ b)
  | .imul => len = 1 ∧ eh_2 st (fun x y st => X (pc + 1) ls (.inl (x * y) :: st) σ b)
  | .irem => len = 1 ∧ eh_2 st (fun x y st => (0 ≤ x ∧ x < 2147483648) ∧ (0 < y ∧ y < 2147483648) ∧ X (pc + 1) ls (.inl (x % y) :: st) σ b)
  | .ior => len = 1 ∧ eh_2 st (fun x y st => (x = 0 ∨ x = 1) ∧ (y = 0 ∨ y = 1) ∧ X (pc + 1) ls (.inl (eh_or x y) :: st) σ b)
  | .i2b => len = 1 ∧ eh_1 st (fun x st => (-128 ≤ x ∧ x < 128) ∧ X (pc + 1) ls (.inl x :: st) σ b)
  | .i2s => len = 1 ∧ eh_1 st (fun x st => (-32768 ≤ x ∧ x < 32768) ∧ X (pc + 1) ls (.inl x :: st) σ b)
  | .dup => len = 1 ∧ (match st with | v :: st => X (pc + 1) ls (v :: v :: st) σ b | _ => False)
  | .dup_x1 => len = 1 ∧ (match st with | v :: w :: st => X (pc + 1) ls (v :: w :: v :: st) σ b | _ => False)
  | .dup_x2 => len = 1 ∧ (match st with | v :: w :: u :: st => X (pc + 1) ls (v :: w :: u :: v :: st) σ b | _ => False)
  | .dup2 => len = 1 ∧ (match st with | v :: w :: st => X (pc + 1) ls (v :: w :: v :: w :: st) σ b | _ => False)
  | .ifCond k off => len = 3 ∧ eh_1 st (fun x st => eh_r x ∧ (eh_cmp k x 0 → X ((pc : Int) + off).toNat ls st σ b) ∧ (¬ eh_cmp k x 0 → X (pc + 3) ls st σ b) ∧ 0 ≤ (pc : Int) + off)
  | .if_icmp k off => len = 3 ∧ eh_2 st (fun x y st => eh_r x ∧ eh_r y ∧ (eh_cmp k x y → X ((pc : Int) + off).toNat ls st σ b) ∧ (¬ eh_cmp k x y → X (pc + 3) ls st σ b) ∧ 0 ≤ (pc : Int) + off)
  | .goto off => len = 3 ∧ 0 ≤ (pc : Int) + off ∧ X ((pc : Int) + off).toNat ls st σ b
  | .tableswitch d lo hi offs => eh_1 st (fun x st => eh_r x ∧ ((x < lo ∨ hi < x) → 0 ≤ (pc : Int) + d ∧ X ((pc : Int) + d).toNat ls st σ b) ∧
      (lo ≤ x → x ≤ hi → ∃ off, offs[(x - lo).toNat]? = some off ∧ 0 ≤ (pc : Int) + off ∧ X ((pc : Int) + off).toNat ls st σ b))
  | .getfield k => len = 3 ∧ eh_1r st (fun n st => ∃ f, fl k = some (n.1, f) ∧ (0 ≤ n.2 ∧ n.2 < nm n.1) ∧ X (pc + 3) ls (eh_fv σ n.1 n.2 f :: st) σ b)
  | .putfield k => len = 3 ∧ (match st with
      | .inl z :: .inr (some n) :: st => ∃ f, fl k = some (n.1, f) ∧ (0 ≤ n.2 ∧ n.2 < nm n.1) ∧ ((eh_ft n.1).getD f 9 = 0 ∨ (eh_ft n.1).getD f 9 = 1 ∧ (z = 0 ∨ z = 1)) ∧ X (pc + 3) ls st (eh_sV σ (100 * (n.1 + 1) + f) n.2 (eh_wr z)) b
      | .inr (some q) :: .inr (some n) :: st => ∃ f, fl k = some (n.1, f) ∧ (0 ≤ n.2 ∧ n.2 < nm n.1) ∧ (eh_ft n.1).getD f 9 = 3 ∧ q.1 = 3 ∧ (0 ≤ q.2 ∧ q.2 < 8) ∧ X (pc + 3) ls st (eh_sV σ (100 * (n.1 + 1) + f) n.2 q.2) b
      | _ => False)
  | .iaload => len = 1 ∧ eh_ar st (fun c i z st => (0 ≤ i ∧ i < nm c) ∧ (eh_al c).1 = 0 ∧ (0 ≤ z ∧ z < (eh_al c).2) ∧ X (pc + 1) ls (.inl (σ.2 c i z) :: st) σ b)
  | .baload => len = 1 ∧ eh_ar st (fun c i z st => (c = 99 ∧ nm 0 = 1 ∧ ∃ j, (0 ≤ j ∧ j < σ.1 11 0) ∧ σ.2 13 0 j = i ∧ (0 ≤ z ∧ z < σ.2 15 0 j) ∧ X (pc + 1) ls (.inl (σ.2 11 j z) :: st) σ b) ∨
      (c ≠ 99 ∧ (0 ≤ i ∧ i < nm c) ∧ (eh_al c).1 = 1 ∧ (0 ≤ z ∧ z < (eh_al c).2) ∧ X (pc + 1) ls (.inl (σ.2 c i z) :: st) σ b))
  | .saload => len = 1 ∧ eh_ar st (fun c i z st => c = 99 ∧ nm 0 = 1 ∧ ∃ j, (0 ≤ j ∧ j < σ.1 10 0) ∧ σ.2 12 0 j = i ∧ (0 ≤ z ∧ z < σ.2 14 0 j) ∧ X (pc + 1) ls (.inl (σ.2 10 j z) :: st) σ b)
  | .aaload => len = 1 ∧ eh_ar st (fun c i z st => (0 ≤ i ∧ i < nm c) ∧ (c = 117 ∧ (0 ≤ z ∧ z < 8) ∧ X (pc + 1) ls (.inr (some (3, z)) :: st) σ b ∨
      (c = 113 ∨ c = 114) ∧ (0 ≤ z ∧ z < 1000) ∧ i = 0 ∧ 0 ≤ σ.2 c 0 z ∧ X (pc + 1) ls (.inr (some (99, σ.2 c 0 z)) :: st) σ b))
  | .iastore => len = 1 ∧ eh_as st (fun c i z x st => (0 ≤ i ∧ i < nm c) ∧ (eh_al c).1 = 0 ∧ (0 ≤ z ∧ z < (eh_al c).2) ∧ X (pc + 1) ls st (eh_sA σ c i z (eh_wr x)) b)
  | .bastore => len = 1 ∧ eh_as st (fun c i z x st => (c = 99 ∧ nm 0 = 1 ∧ ∃ j, (0 ≤ j ∧ j < σ.1 11 0) ∧ σ.2 13 0 j = i ∧ (0 ≤ z ∧ z < σ.2 15 0 j) ∧ (-128 ≤ x ∧ x < 128) ∧ X (pc + 1) ls st (eh_sA σ 11 j z x) b) ∨
      (c ≠ 99 ∧ (0 ≤ i ∧ i < nm c) ∧ (eh_al c).1 = 1 ∧ (0 ≤ z ∧ z < (eh_al c).2) ∧ (x = 0 ∨ x = 1) ∧ X (pc + 1) ls st (eh_sA σ c i z x) b))
  | .sastore => len = 1 ∧ eh_as st (fun c i z x st => c = 99 ∧ nm 0 = 1 ∧ ∃ j, (0 ≤ j ∧ j < σ.1 10 0) ∧ σ.2 12 0 j = i ∧ (0 ≤ z ∧ z < σ.2 14 0 j) ∧ (-32768 ≤ x ∧ x < 32768) ∧ X (pc + 1) ls st (eh_sA σ 10 j z x) b)
  | .aastore => len = 1 ∧ eh_asr st (fun c i z n st => (0 ≤ i ∧ i < nm c) ∧ i = 0 ∧ n.1 = 99 ∧ nm 0 = 1 ∧ 0 ≤ n.2 ∧ (0 ≤ z ∧ z < 1000) ∧ (c = 113 ∧ (∃ j, (0 ≤ j ∧ j < σ.1 10 0) ∧ σ.2 12 0 j = n.2) ∨ c = 114 ∧ (∃ j, (0 ≤ j ∧ j < σ.1 11 0) ∧ σ.2 13 0 j = n.2)) ∧ X (pc + 1) ls st (eh_sA σ c 0 z n.2) b)
  | .newarray .short => len = 2 ∧ eh_1 st (fun z st => (0 ≤ z ∧ z < 1000) ∧ nm 0 = 1 ∧ (0 ≤ σ.1 10 0 ∧ σ.1 10 0 < 100000) ∧ (b.1 + 1 ≤ lim.1 ∧ b.2 + z.toNat ≤ lim.2) ∧
      ∀ a : Int, 0 ≤ a → X (pc + 2) ls (.inr (some (99, a)) :: st) (fun v i => if v = 10 ∧ i = 0 then σ.1 10 0 + 1 else σ.1 v i, fun c i j => if c = 12 ∧ i = 0 ∧ j = σ.1 10 0 then a else if c = 14 ∧ i = 0 ∧ j = σ.1 10 0 then z else if c = 10 ∧ i = σ.1 10 0 then 0 else σ.2 c i j) (b.1 + 1, b.2 + z.toNat))
  | .newarray .byte => len = 2 ∧ eh_1 st (fun z st => (0 ≤ z ∧ z < 1000) ∧ nm 0 = 1 ∧ (0 ≤ σ.1 11 0 ∧ σ.1 11 0 < 100000) ∧ (b.1 + 1 ≤ lim.1 ∧ b.2 + z.toNat ≤ lim.2) ∧
      ∀ a : Int, 0 ≤ a → X (pc + 2) ls (.inr (some (99, a)) :: st) (fun v i => if v = 11 ∧ i = 0 then σ.1 11 0 + 1 else σ.1 v i, fun c i j => if c = 13 ∧ i = 0 ∧ j = σ.1 11 0 then a else if c = 15 ∧ i = 0 ∧ j = σ.1 11 0 then z else if c = 11 ∧ i = σ.1 11 0 then 0 else σ.2 c i j) (b.1 + 1, b.2 + z.toNat))
  | .invokevirtual k => len = 3 ∧ (match cs k with
      | some (n, T) => n ≤ st.length ∧ (st.drop n).length ≤ 8 ∧ ∃ bd : Nat × Nat, b.1 + bd.1 ≤ lim.1 ∧ b.2 + bd.2 ≤ lim.2 ∧ T (st.take n).reverse σ bd (fun r σ' => X (pc + 3) ls (r.toList ++ st.drop n) σ' (b.1 + bd.1, b.2 + bd.2))
      | none => False)
  | .invokestatic k => len = 3 ∧ (match ss k with
      | some (n, T) => n ≤ st.length ∧ (st.drop n).length ≤ 8 ∧ ∃ bd : Nat × Nat, b.1 + bd.1 ≤ lim.1 ∧ b.2 + bd.2 ≤ lim.2 ∧ T (st.take n).reverse σ bd (fun r σ' => X (pc + 3) ls (r.toList ++ st.drop n) σ' (b.1 + bd.1, b.2 + bd.2))
      | none => False)
  | .ireturn => len = 1 ∧ (match st with
      | [.inl z] => (rb = 0 ∨ rb = 1 ∧ (z = 0 ∨ z = 1)) ∧ (b.1 ≤ lim.1 ∧ b.2 ≤ lim.2) ∧ Rt (some (.inl z)) σ
      | _ => False)
  | .return_ => len = 1 ∧ rb = 2 ∧ st = [] ∧ (b.1 ≤ lim.1 ∧ b.2 ≤ lim.2) ∧ Rt none σ
  | _ => False
