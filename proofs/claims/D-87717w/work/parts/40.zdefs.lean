/-! the picture z of both classes, and what each call answers and does to it -/
abbrev pz_Z : Type := eh_S × (Int → List pu_Rn) × List (Int × pu_Rw)
def pz_E (z : pz_Z) : Nat → Int → Int := fun id j => z.1.2 id 0 j
def pz_P (z : pz_Z) (p : Int) : Nat → Int → Int := fun id j => z.1.2 (10 + id) p j
noncomputable def pz_if {α : Type} (c : Prop) (a b : α) : α := by classical exact if c then a else b
theorem pz_if_t {α : Type} {c : Prop} {a b : α} (h : c) : pz_if c a b = a := by unfold pz_if; exact if_pos h
theorem pz_if_f {α : Type} {c : Prop} {a b : α} (h : ¬ c) : pz_if c a b = b := by unfold pz_if; exact if_neg h
/-- what z may be -/
def pz_okE (z : pz_Z) : Prop := (0 ≤ z.1.1 0 0 ∧ z.1.1 0 0 ≤ z.1.1 1 0 ∧ z.1.1 1 0 ≤ 1000 ∧ z.1.1 1 0 - z.1.1 0 0 ≤ 100) ∧ (0 ≤ z.1.1 4 0 ∧ z.1.1 4 0 ≤ 8) ∧ (0 ≤ z.1.1 3 0 ∧ z.1.1 3 0 ≤ 200000) ∧ pu_eok (pz_E z) (z.1.1 1 0) ∧
  (∀ i j, z.1.1 0 0 ≤ i → i < j → j < z.1.1 1 0 → z.1.2 1 0 i < z.1.2 1 0 j ∨ z.1.2 1 0 i = z.1.2 1 0 j ∧ z.1.2 4 0 i < z.1.2 4 0 j) ∧ (∀ i, z.1.1 0 0 ≤ i → i < z.1.1 1 0 → z.1.1 3 0 ≤ z.1.2 1 0 i)
def pz_okP (z : pz_Z) : Prop := ∀ p, 0 ≤ p → p < 8 → pu_pok (pz_P z p) ∧ (∀ j, 0 ≤ j → j < z.1.2 15 p 0 → 0 ≤ z.1.2 13 p j ∧ z.1.2 13 p j ≤ 3) ∧ (0 ≤ z.1.2 19 p 0 ∧ z.1.2 19 p 0 ≤ z.1.1 0 0) ∧ (z.1.2 20 p 0 = 0 ∨ z.1.2 20 p 0 = 1) ∧ (z.1.2 21 p 0 = 0 ∨ z.1.2 21 p 0 = 1) ∧ (0 ≤ z.1.2 22 p 0 ∧ z.1.2 22 p 0 ≤ 201 * z.1.1 0 0) ∧ pu_Lok (pz_P z p) (z.1.1 0 0) (z.2.1 p) ∧ (z.1.2 20 p 0 = 0 → z.2.1 p = []) ∧ (z.1.2 20 p 0 ≠ 0 → 0 < z.1.2 15 p 0) ∧ (z.1.1 4 0 ≤ p → z.1.2 15 p 0 = 0 ∧ z.1.2 20 p 0 = 0 ∧ z.1.2 21 p 0 = 0 ∧ z.1.2 22 p 0 = 0)
def pz_okM (z : pz_Z) : Prop := (z.2.2.length : Int) ≤ 1608 * z.1.1 0 0 ∧ ∀ x ∈ z.2.2, (0 ≤ x.1 ∧ x.1 < 8) ∧ x.2 ≠ [] ∧ x.2.length ≤ 24 ∧ ∀ q ∈ x.2, (0 ≤ q.1 ∧ q.1 < z.1.1 0 0) ∧ (0 ≤ q.2 ∧ q.2 < 6)
def pz_ok (z : pz_Z) : Prop := pz_okE z ∧ pz_okP z ∧ pz_okM z
/-! EventHunter shows z -/
def xz_A (σ : eh_S) (z : pz_Z) : Prop := ∀ k, 0 ≤ k → k < 16 → σ.2 100 0 k = z.1.2 3 0 k
def xz_B (σ : eh_S) (z : pz_Z) : Prop := σ.1 106 0 = z.1.1 1 0 ∧ (∀ e, 0 ≤ e → e < z.1.1 1 0 → σ.2 101 0 e = z.1.2 0 0 e ∧ σ.2 102 0 e = z.1.2 1 0 e ∧ σ.2 103 0 e = z.1.2 4 0 e) ∧ ∀ j, 0 ≤ j → j < 4 * z.1.1 1 0 → σ.2 104 0 j = z.1.2 2 0 j
def xz_C (σ : eh_S) (z : pz_Z) : Prop := ∀ j, 0 ≤ j → j < 4 → σ.2 109 0 j = z.1.2 5 0 j
def xz_D (σ : eh_S) (z : pz_Z) : Prop := σ.1 105 0 = z.1.1 0 0 ∧ σ.1 107 0 = z.1.1 2 0 ∧ σ.1 108 0 = z.1.1 3 0 ∧ σ.1 118 0 = z.1.1 4 0
def xz_F1 (σ : eh_S) (z : pz_Z) (p : Int) : Prop := (σ.1 400 p = z.1.2 17 p 0 ∧ σ.1 401 p = z.1.2 18 p 0 ∧ σ.1 402 p = z.1.2 16 p 0 ∧ σ.1 403 p = z.1.2 15 p 0) ∧ (σ.1 409 p = z.1.2 20 p 0 ∧ σ.1 410 p = z.1.2 21 p 0 ∧ σ.1 411 p = z.1.2 19 p 0 ∧ σ.1 412 p = z.1.2 22 p 0) ∧ ∀ j, 0 ≤ j → j < z.1.2 15 p 0 → σ.2 404 p j = z.1.2 10 p j ∧ σ.2 405 p j = z.1.2 11 p j ∧ σ.2 406 p j = z.1.2 12 p j ∧ σ.2 407 p j = z.1.2 13 p j ∧ σ.2 408 p j = z.1.2 14 p j
def xz_F (σ : eh_S) (z : pz_Z) : Prop := ∀ p, 0 ≤ p → p < 8 → xz_F1 σ z p
def xz_rts (Gs : Int → List (Int × pu_Rn)) : List Int := (List.range 8).flatMap (fun p : Nat => (Gs p).map Prod.fst)
def xz_W1 (σ : eh_S) (z : pz_Z) (Gs : Int → List (Int × pu_Rn)) : Prop := (∀ p, 0 ≤ p → p < 8 → (Gs p).map Prod.snd = z.2.1 p ∧ xr_G σ p (Gs p) ∧ ∀ y ∈ Gs p, xw_way σ y.2.1 y.1) ∧ xw_I σ (xz_rts Gs)
def xz_W (σ : eh_S) (z : pz_Z) : Prop := ∃ Gs : Int → List (Int × pu_Rn), xz_W1 σ z Gs
def xz (σ : eh_S) (z : pz_Z) : Prop := xz_A σ z ∧ xz_B σ z ∧ xz_C σ z ∧ xz_D σ z ∧ xz_F σ z ∧ xz_W σ z ∧ xm_M σ z.2.2
theorem xz_A_t {σ σ' : eh_S} {z z' : pz_Z} (h : xz_A σ z) (e1 : σ'.2 100 = σ.2 100) (e2 : z'.1.2 3 = z.1.2 3) : xz_A σ' z' := by unfold xz_A; rw [e1, e2]; exact h
theorem xz_B_t {σ σ' : eh_S} {z z' : pz_Z} (h : xz_B σ z) (e1 : σ'.1 106 = σ.1 106) (e2 : ∀ c ∈ [101, 102, 103, 104], σ'.2 c = σ.2 c) (e3 : z'.1.1 1 = z.1.1 1) (e4 : ∀ c ∈ [0, 1, 2, 4], z'.1.2 c = z.1.2 c) : xz_B σ' z' := by
  unfold xz_B
  rw [e1, e2 101 (by decide), e2 102 (by decide), e2 103 (by decide), e2 104 (by decide), e3, e4 0 (by decide), e4 1 (by decide), e4 2 (by decide), e4 4 (by decide)]
  exact h
theorem xz_C_t {σ σ' : eh_S} {z z' : pz_Z} (h : xz_C σ z) (e1 : σ'.2 109 = σ.2 109) (e2 : z'.1.2 5 = z.1.2 5) : xz_C σ' z' := by unfold xz_C; rw [e1, e2]; exact h
theorem xz_D_t {σ σ' : eh_S} {z z' : pz_Z} (h : xz_D σ z) (e1 : ∀ v ∈ [105, 107, 108, 118], σ'.1 v = σ.1 v) (e2 : ∀ v ∈ [0, 2, 3, 4], z'.1.1 v = z.1.1 v) : xz_D σ' z' := by
  unfold xz_D
  rw [e1 105 (by decide), e1 107 (by decide), e1 108 (by decide), e1 118 (by decide), e2 0 (by decide), e2 2 (by decide), e2 3 (by decide), e2 4 (by decide)]
  exact h
theorem xz_F1_t {σ σ' : eh_S} {z z' : pz_Z} {p : Int} (h : xz_F1 σ z p) (e1 : ∀ v ∈ [400, 401, 402, 403, 409, 410, 411, 412], σ'.1 v p = σ.1 v p) (e2 : ∀ c ∈ [404, 405, 406, 407, 408], σ'.2 c p = σ.2 c p) (e3 : ∀ c, 10 ≤ c → c ≤ 22 → z'.1.2 c p = z.1.2 c p) : xz_F1 σ' z' p := by
  unfold xz_F1
  rw [e1 400 (by decide), e1 401 (by decide), e1 402 (by decide), e1 403 (by decide), e1 409 (by decide), e1 410 (by decide), e1 411 (by decide), e1 412 (by decide), e2 404 (by decide), e2 405 (by decide), e2 406 (by decide), e2 407 (by decide), e2 408 (by decide), e3 10 (by decide) (by decide), e3 11 (by decide) (by decide), e3 12 (by decide) (by decide), e3 13 (by decide) (by decide), e3 14 (by decide) (by decide), e3 15 (by decide) (by decide), e3 16 (by decide) (by decide), e3 17 (by decide) (by decide), e3 18 (by decide) (by decide), e3 19 (by decide) (by decide), e3 20 (by decide) (by decide), e3 21 (by decide) (by decide), e3 22 (by decide) (by decide)]
  exact h
theorem xz_F_t {σ σ' : eh_S} {z z' : pz_Z} (h : xz_F σ z) (e1 : ∀ v ∈ [400, 401, 402, 403, 409, 410, 411, 412], σ'.1 v = σ.1 v) (e2 : ∀ c ∈ [404, 405, 406, 407, 408], σ'.2 c = σ.2 c) (e3 : ∀ c, 10 ≤ c → c ≤ 22 → z'.1.2 c = z.1.2 c) : xz_F σ' z' := fun p h0 h1 => xz_F1_t (h p h0 h1) (fun v hv => by rw [e1 v hv]) (fun c hc => by rw [e2 c hc]) (fun c a b => by rw [e3 c a b])
theorem xz_W_t {σ σ' : eh_S} {z z' : pz_Z} (h : xz_W σ z) {SV SA : List Nat} (hf : eh_fr SV SA σ σ') (hd : ∀ c ∈ [200, 201, 202, 203, 413, 414], c ∉ SA) (hv : ∀ v ∈ [204, 205, 415], v ∉ SV) (e : z'.2.1 = z.2.1) : xz_W σ' z' := by
  obtain ⟨Gs, h1, h2⟩ := h
  refine ⟨Gs, fun p h0 h1' => ?_, xw_I_fr h2 hf (fun c hc => hd c ?_) (hv 204 (by decide)) (hv 205 (by decide))⟩
  · obtain ⟨a1, a2, a3⟩ := h1 p h0 h1'
    refine ⟨by rw [e]; exact a1, xr_G_fr a2 hf (fun c hc => hd c ?_) (hv 415 (by decide)), fun y hy => xw_way_fr hf (fun c hc => hd c ?_) (a3 y hy)⟩
    · simp only [List.mem_cons, List.not_mem_nil, or_false] at hc ⊢; omega
    · simp only [List.mem_cons, List.not_mem_nil, or_false] at hc ⊢; omega
  · simp only [List.mem_cons, List.not_mem_nil, or_false] at hc ⊢; omega
/-- EventHunter's own words -/
abbrev pX_V : List Nat := [10, 11, 105, 106, 107, 108, 115, 116, 118, 204, 205, 302, 303, 400, 401, 402, 403, 409, 410, 411, 412, 415]
abbrev pX_A : List Nat := [10, 11, 12, 13, 14, 15, 100, 101, 102, 103, 104, 109, 111, 112, 113, 114, 120, 200, 201, 202, 203, 300, 301, 404, 405, 406, 407, 408, 413, 414]
def xk (rz : Int × pz_Z) (σ : eh_S) (K : Option eh_V → eh_S → Prop) : Prop := ∀ σ', eh_fr pX_V pX_A σ σ' → xz σ' rz.2 → K (some (.inl rz.1)) σ'
theorem xk_s {r : Int} {z : pz_Z} {σ : eh_S} {K : Option eh_V → eh_S → Prop} (h : xk (r, z) σ K) (hz : xz σ z) : K (some (.inl r)) σ := h σ eh_fr_rf hz
/-! EventHunterModel shows z -/
def mz_A (σ : eh_S) (z : pz_Z) : Prop := ∀ k, 0 ≤ k → k < 16 → σ.2 501 0 k = z.1.2 3 0 k
def mz_B (σ : eh_S) (z : pz_Z) : Prop := σ.1 508 0 = z.1.1 0 0 ∧ (∀ e, 0 ≤ e → e < z.1.1 0 0 → σ.2 509 0 e = z.1.2 0 0 e ∧ σ.2 510 0 e = z.1.2 1 0 e ∧ σ.2 511 0 e = z.1.2 4 0 e) ∧ ∀ j, 0 ≤ j → j < 4 * z.1.1 0 0 → σ.2 512 0 j = z.1.2 2 0 j
/-- those that wait, from place n of the row on -/
def mz_W (σ : eh_S) (z : pz_Z) (n : Int) : Prop := σ.1 503 0 = n + (z.1.1 1 0 - z.1.1 0 0) ∧ (∀ k, n ≤ k → k < σ.1 503 0 → σ.2 504 0 k = z.1.2 0 0 (z.1.1 0 0 + k - n) ∧ σ.2 505 0 k = z.1.2 1 0 (z.1.1 0 0 + k - n) ∧ σ.2 506 0 k = z.1.2 4 0 (z.1.1 0 0 + k - n)) ∧ ∀ j, 4 * n ≤ j → j < 4 * σ.1 503 0 → σ.2 507 0 j = z.1.2 2 0 (4 * z.1.1 0 0 + j - 4 * n)
def mz_C (σ : eh_S) (z : pz_Z) : Prop := ∀ j, 0 ≤ j → j < 4 → σ.2 502 0 j = z.1.2 5 0 j
def mz_D (σ : eh_S) (z : pz_Z) : Prop := σ.1 514 0 = z.1.1 2 0 ∧ σ.1 513 0 = z.1.1 3 0 ∧ σ.1 515 0 = z.1.1 4 0
def mz_F1 (σ : eh_S) (z : pz_Z) (p : Int) : Prop := (σ.2 516 0 p = z.1.2 17 p 0 ∧ σ.2 517 0 p = z.1.2 18 p 0 ∧ σ.2 518 0 p = z.1.2 16 p 0 ∧ σ.2 519 0 p = z.1.2 15 p 0) ∧ (σ.2 521 0 p = z.1.2 20 p 0 ∧ σ.2 522 0 p = z.1.2 21 p 0 ∧ σ.2 520 0 p = z.1.2 19 p 0 ∧ σ.2 523 0 p = z.1.2 22 p 0) ∧ ∀ j, 0 ≤ j → j < z.1.2 15 p 0 → σ.2 524 0 (6 * p + j) = z.1.2 10 p j ∧ σ.2 525 0 (6 * p + j) = z.1.2 11 p j ∧ σ.2 526 0 (6 * p + j) = z.1.2 12 p j ∧ (z.1.2 12 p j ≠ 0 → σ.2 527 0 (6 * p + j) = z.1.2 13 p j ∧ σ.2 528 0 (6 * p + j) = z.1.2 14 p j)
def mz_F (σ : eh_S) (z : pz_Z) : Prop := ∀ p, 0 ≤ p → p < 8 → mz_F1 σ z p
def mz_R (σ : eh_S) (z : pz_Z) : Prop := ∀ p, 0 ≤ p → p < 8 → mr_L σ p (z.2.1 p)
def mz (σ : eh_S) (z : pz_Z) : Prop := mz_A σ z ∧ mz_B σ z ∧ mz_W σ z 0 ∧ mz_C σ z ∧ mz_D σ z ∧ mz_F σ z ∧ mz_R σ z ∧ mm_M σ z.2.2
theorem mz_A_t {σ σ' : eh_S} {z z' : pz_Z} (h : mz_A σ z) (e1 : σ'.2 501 = σ.2 501) (e2 : z'.1.2 3 = z.1.2 3) : mz_A σ' z' := by unfold mz_A; rw [e1, e2]; exact h
theorem mz_B_t {σ σ' : eh_S} {z z' : pz_Z} (h : mz_B σ z) (e1 : σ'.1 508 = σ.1 508) (e2 : ∀ c ∈ [509, 510, 511, 512], σ'.2 c = σ.2 c) (e3 : z'.1.1 0 = z.1.1 0) (e4 : ∀ c ∈ [0, 1, 2, 4], z'.1.2 c = z.1.2 c) : mz_B σ' z' := by
  unfold mz_B
  rw [e1, e2 509 (by decide), e2 510 (by decide), e2 511 (by decide), e2 512 (by decide), e3, e4 0 (by decide), e4 1 (by decide), e4 2 (by decide), e4 4 (by decide)]
  exact h
theorem mz_W_t {σ σ' : eh_S} {z z' : pz_Z} {n : Int} (h : mz_W σ z n) (e1 : σ'.1 503 = σ.1 503) (e2 : ∀ c ∈ [504, 505, 506, 507], σ'.2 c = σ.2 c) (e3 : ∀ v ∈ [0, 1], z'.1.1 v = z.1.1 v) (e4 : ∀ c ∈ [0, 1, 2, 4], z'.1.2 c = z.1.2 c) : mz_W σ' z' n := by
  unfold mz_W
  rw [e1, e2 504 (by decide), e2 505 (by decide), e2 506 (by decide), e2 507 (by decide), e3 0 (by decide), e3 1 (by decide), e4 0 (by decide), e4 1 (by decide), e4 2 (by decide), e4 4 (by decide)]
  exact h
theorem mz_C_t {σ σ' : eh_S} {z z' : pz_Z} (h : mz_C σ z) (e1 : σ'.2 502 = σ.2 502) (e2 : z'.1.2 5 = z.1.2 5) : mz_C σ' z' := by unfold mz_C; rw [e1, e2]; exact h
theorem mz_D_t {σ σ' : eh_S} {z z' : pz_Z} (h : mz_D σ z) (e1 : ∀ v ∈ [513, 514, 515], σ'.1 v = σ.1 v) (e2 : ∀ v ∈ [2, 3, 4], z'.1.1 v = z.1.1 v) : mz_D σ' z' := by
  unfold mz_D
  rw [e1 513 (by decide), e1 514 (by decide), e1 515 (by decide), e2 2 (by decide), e2 3 (by decide), e2 4 (by decide)]
  exact h
theorem mz_F_t {σ σ' : eh_S} {z z' : pz_Z} (h : mz_F σ z) (e2 : ∀ c ∈ [516, 517, 518, 519, 520, 521, 522, 523, 524, 525, 526, 527, 528], σ'.2 c = σ.2 c) (e3 : ∀ c, 10 ≤ c → c ≤ 22 → z'.1.2 c = z.1.2 c) : mz_F σ' z' := by
  intro p h0 h1
  unfold mz_F1
  rw [e2 516 (by decide), e2 517 (by decide), e2 518 (by decide), e2 519 (by decide), e2 520 (by decide), e2 521 (by decide), e2 522 (by decide), e2 523 (by decide), e2 524 (by decide), e2 525 (by decide), e2 526 (by decide), e2 527 (by decide), e2 528 (by decide), e3 10 (by decide) (by decide), e3 11 (by decide) (by decide), e3 12 (by decide) (by decide), e3 13 (by decide) (by decide), e3 14 (by decide) (by decide), e3 15 (by decide) (by decide), e3 16 (by decide) (by decide), e3 17 (by decide) (by decide), e3 18 (by decide) (by decide), e3 19 (by decide) (by decide), e3 20 (by decide) (by decide), e3 21 (by decide) (by decide), e3 22 (by decide) (by decide)]
  exact h p h0 h1
theorem mz_R_t {σ σ' : eh_S} {z z' : pz_Z} (h : mz_R σ z) {SV SA : List Nat} (hf : eh_fr SV SA σ σ') (hd : ∀ c ∈ [529, 530, 531, 532, 533], c ∉ SA) (e : z'.2.1 = z.2.1) : mz_R σ' z' := fun p h0 h1 => by
  rw [e]
  exact mr_L_fr (h p h0 h1) hf hd
abbrev pM_V : List Nat := [503, 508, 513, 514, 515, 535, 542, 544]
abbrev pM_A : List Nat := [501, 502, 504, 505, 506, 507, 509, 510, 511, 512, 516, 517, 518, 519, 520, 521, 522, 523, 524, 525, 526, 527, 528, 529, 530, 531, 532, 533, 534, 536, 537, 538, 539, 540, 541, 543, 545, 546, 547]
def mk (rz : Int × pz_Z) (σ : eh_S) (K : Option eh_V → eh_S → Prop) : Prop := ∀ σ', eh_fr pM_V pM_A σ σ' → mz σ' rz.2 → K (some (.inl rz.1)) σ'
theorem mk_s {r : Int} {z : pz_Z} {σ : eh_S} {K : Option eh_V → eh_S → Prop} (h : mk (r, z) σ K) (hz : mz σ z) : K (some (.inl r)) σ := h σ eh_fr_rf hz
/-- each class leaves the other one alone -/
theorem xz_keep {σ σ' : eh_S} {z : pz_Z} (h : xz σ z) (hf : eh_fr pM_V pM_A σ σ') : xz σ' z := by
  obtain ⟨a1, a2, a3, a4, a5, a6, a7⟩ := h
  exact ⟨xz_A_t a1 (hf.2 100 (by decide)) rfl, xz_B_t a2 (hf.1 106 (by decide)) (fun c hc => hf.2 c (by simp only [List.mem_cons, List.not_mem_nil, or_false] at hc ⊢; omega)) rfl (fun _ _ => rfl), xz_C_t a3 (hf.2 109 (by decide)) rfl, xz_D_t a4 (fun v hv => hf.1 v (by simp only [List.mem_cons, List.not_mem_nil, or_false] at hv ⊢; omega)) (fun _ _ => rfl), xz_F_t a5 (fun v hv => hf.1 v (by simp only [List.mem_cons, List.not_mem_nil, or_false] at hv ⊢; omega)) (fun c hc => hf.2 c (by simp only [List.mem_cons, List.not_mem_nil, or_false] at hc ⊢; omega)) (fun _ _ _ => rfl), xz_W_t a6 hf (by decide) (by decide) rfl, xm_M_fr a7 hf (by decide) (by decide)⟩
theorem mz_keep {σ σ' : eh_S} {z : pz_Z} (h : mz σ z) (hf : eh_fr pX_V pX_A σ σ') : mz σ' z := by
  obtain ⟨a1, a2, a3, a4, a5, a6, a7, a8⟩ := h
  exact ⟨mz_A_t a1 (hf.2 501 (by decide)) rfl, mz_B_t a2 (hf.1 508 (by decide)) (fun c hc => hf.2 c (by simp only [List.mem_cons, List.not_mem_nil, or_false] at hc ⊢; omega)) rfl (fun _ _ => rfl), mz_W_t a3 (hf.1 503 (by decide)) (fun c hc => hf.2 c (by simp only [List.mem_cons, List.not_mem_nil, or_false] at hc ⊢; omega)) (fun _ _ => rfl) (fun _ _ => rfl), mz_C_t a4 (hf.2 502 (by decide)) rfl, mz_D_t a5 (fun v hv => hf.1 v (by simp only [List.mem_cons, List.not_mem_nil, or_false] at hv ⊢; omega)) (fun _ _ => rfl), mz_F_t a6 (fun c hc => hf.2 c (by simp only [List.mem_cons, List.not_mem_nil, or_false] at hc ⊢; omega)) (fun _ _ _ => rfl), mz_R_t a7 hf (by decide) rfl, mm_M_fr a8 hf (by decide) (by decide)⟩
/-! the calls -/
noncomputable def pz_parent (k p : Int) (z : pz_Z) : Int × pz_Z := pz_if (¬ ((0 ≤ k ∧ k < 16) ∧ (-1 ≤ p ∧ p < k))) (-2, z) (pz_if (∃ i, 0 ≤ i ∧ i < z.1.1 4 0 ∧ z.1.2 20 i 0 ≠ 0) (-3, z) (z.1.2 3 0 k, (eh_sA z.1 3 0 k p, z.2)))
noncomputable def pz_pattern (a w c : Int) (z : pz_Z) : Int × pz_Z := pz_if (¬ ((1 ≤ a ∧ a ≤ 1000) ∧ (0 ≤ w ∧ w ≤ 1) ∧ (-1 ≤ c ∧ c ≤ 3))) (-1, z) (pz_if (z.1.1 4 0 = 8) (-4, z) (z.1.1 4 0, (eh_sV (eh_sA (eh_sA (eh_sA z.1 17 (z.1.1 4 0) 0 a) 18 (z.1.1 4 0) 0 w) 16 (z.1.1 4 0) 0 c) 4 0 (z.1.1 4 0 + 1), z.2)))
def pz_stand (z : pz_Z) (p s : Int) : Prop := (z.1.2 15 p 0 = 0 → s = 0 ∨ s = 1) ∧ (z.1.2 15 p 0 ≠ 0 → (s = 3 → z.1.2 10 p (z.1.2 15 p 0 - 1) = 0 ∨ z.1.2 10 p (z.1.2 15 p 0 - 1) = 1) ∧ (s ≠ 3 → s ≠ 2 ∨ z.1.2 10 p (z.1.2 15 p 0 - 1) ≠ 3))
def pz_test (z : pz_Z) (p t f c : Int) : Prop := (0 ≤ t ∧ t ≤ 6) ∧ (t ≠ 0 → (0 ≤ f ∧ f ≤ 3) ∧ (t < 4 → -1000 ≤ c ∧ c ≤ 1000) ∧ (4 ≤ t → 0 ≤ c ∧ c < z.1.2 15 p 0))
noncomputable def pz_stepS (p s o t f c : Int) (z : pz_Z) : eh_S := (z.1.1, fun id i j => if i = p ∧ id = 19 ∧ j = 0 ∧ z.1.2 15 p 0 = 0 then z.1.1 0 0 else if i = p ∧ id = 15 ∧ j = 0 then z.1.2 15 p 0 + 1 else if i = p ∧ j = z.1.2 15 p 0 ∧ id = 10 then s else if i = p ∧ j = z.1.2 15 p 0 ∧ id = 11 then o else if i = p ∧ j = z.1.2 15 p 0 ∧ id = 12 then t else if i = p ∧ j = z.1.2 15 p 0 ∧ id = 13 then (if t = 0 then 0 else f) else if i = p ∧ j = z.1.2 15 p 0 ∧ id = 14 then (if t = 0 then 0 else c) else z.1.2 id i j)
noncomputable def pz_step (p s o t f c : Int) (z : pz_Z) : Int × pz_Z := pz_if (¬ ((0 ≤ p ∧ p < z.1.1 4 0) ∧ (0 ≤ s ∧ s ≤ 3) ∧ (0 ≤ o ∧ o < 16) ∧ pz_test z p t f c ∧ pz_stand z p s)) (-1, z) (pz_if (z.1.2 20 p 0 ≠ 0) (-3, z) (pz_if (z.1.2 15 p 0 = 6) (-4, z) (z.1.2 15 p 0, (pz_stepS p s o t f c z, z.2))))
noncomputable def pz_fields (a b c d : Int) (z : pz_Z) : Int × pz_Z := pz_if (¬ ((-1000 ≤ a ∧ a ≤ 1000) ∧ (-1000 ≤ b ∧ b ≤ 1000) ∧ (-1000 ≤ c ∧ c ≤ 1000) ∧ (-1000 ≤ d ∧ d ≤ 1000))) (-1, z) (1, (eh_sA (eh_sA (eh_sA (eh_sA z.1 5 0 0 a) 5 0 1 b) 5 0 2 c) 5 0 3 d, z.2))
def pz_ahead (z : pz_Z) (m n i : Int) : Prop := z.1.2 1 0 i < m ∨ z.1.2 1 0 i = m ∧ z.1.2 4 0 i < n
noncomputable def pz_at (z : pz_Z) (m n : Int) : Int := z.1.1 0 0 + pp_sum (fun i => bz (pz_ahead z m n i)) (z.1.1 1 0 - z.1.1 0 0).toNat (z.1.1 0 0)
def pz_ins (f : Int → Int) (a v j : Int) : Int := if j < a then f j else if j = a then v else f (j - 1)
def pz_ins4 (f g : Int → Int) (a j : Int) : Int := if j < 4 * a then f j else if j < 4 * a + 4 then g (j - 4 * a) else f (j - 4)
def pz_putS (k m n a : Int) (z : pz_Z) : eh_S := (fun v i => if v = 1 ∧ i = 0 then z.1.1 1 0 + 1 else z.1.1 v i, fun id i j => if i = 0 ∧ id = 0 then pz_ins (z.1.2 0 0) a k j else if i = 0 ∧ id = 1 then pz_ins (z.1.2 1 0) a m j else if i = 0 ∧ id = 4 then pz_ins (z.1.2 4 0) a n j else if i = 0 ∧ id = 2 then pz_ins4 (z.1.2 2 0) (z.1.2 5 0) a j else z.1.2 id i j)
noncomputable def pz_put (k m n : Int) (z : pz_Z) : Int × pz_Z := pz_if (¬ ((0 ≤ k ∧ k < 16) ∧ (0 ≤ m ∧ m ≤ 100000) ∧ (0 ≤ n ∧ n ≤ 9999))) (-1, z) (pz_if (m < z.1.1 3 0) (0, (eh_sV z.1 2 0 (eh_wr (z.1.1 2 0 + 1)), z.2)) (pz_if (∃ i, z.1.1 0 0 ≤ i ∧ i < z.1.1 1 0 ∧ z.1.2 1 0 i = m ∧ z.1.2 4 0 i = n) (-2, z) (pz_if (z.1.1 1 0 - z.1.1 0 0 = 100 ∨ z.1.1 1 0 = 1000) (-4, z) (1, (pz_putS k m n (pz_at z m n) z, z.2)))))
/-- an event comes to pattern p -/
noncomputable def pz_patS (e p : Int) (z : pz_Z) : pz_Z := (eh_sA (eh_sA (eh_sA z.1 20 p 0 1) 21 p 0 (bz ((pu_come (pz_E z) (pz_P z p) e (z.2.1 p)).2.2 = true))) 22 p 0 (z.1.2 22 p 0 + ((pu_come (pz_E z) (pz_P z p) e (z.2.1 p)).2.1.length : Int)), (fun q => if q = p then (pu_come (pz_E z) (pz_P z p) e (z.2.1 p)).1 else z.2.1 q), z.2.2 ++ (pu_come (pz_E z) (pz_P z p) e (z.2.1 p)).2.1.map (fun c => (p, c)))
noncomputable def pz_pat (e p : Int) (z : pz_Z) : pz_Z := pz_if (z.1.2 15 p 0 = 0) z (pz_if (z.1.2 21 p 0 ≠ 0) (eh_sA z.1 20 p 0 1, z.2) (pz_patS e p z))
noncomputable def pz_pats (e : Int) : Nat → Int → pz_Z → pz_Z
  | 0, _, z => z
  | k + 1, p, z => pz_pats e k (p + 1) (pz_pat e p z)
noncomputable def pz_ev (z : pz_Z) : pz_Z := pz_pats (z.1.1 0 0) (z.1.1 4 0).toNat 0 (eh_sV z.1 0 0 (z.1.1 0 0 + 1), z.2)
noncomputable def pz_evs (m : Int) : Nat → pz_Z → Int × pz_Z
  | 0, z => (0, z)
  | k + 1, z => pz_if (z.1.1 0 0 < z.1.1 1 0 ∧ z.1.2 1 0 (z.1.1 0 0) < m) ((pz_evs m k (pz_ev z)).1 + 1, (pz_evs m k (pz_ev z)).2) (0, z)
noncomputable def pz_mark (m : Int) (z : pz_Z) : Int × pz_Z := pz_if (¬ (0 ≤ m ∧ m ≤ 200000)) (-1, z) (pz_if (m < z.1.1 3 0) (-5, z) (pz_evs m (z.1.1 1 0 - z.1.1 0 0).toNat (eh_sV z.1 3 0 m, z.2)))
noncomputable def pz_matches (p : Int) (z : pz_Z) : Int := pz_if (p = -1) (z.2.2.length : Int) (pz_if (0 ≤ p ∧ p < z.1.1 4 0) (z.1.2 22 p 0) (-1))
def pz_isM (z : pz_Z) (i : Int) : Prop := 0 ≤ i ∧ i < z.2.2.length ∧ i < 1000
def pz_mt (z : pz_Z) (i : Int) : Int × pu_Rw := (z.2.2[i.toNat]?).getD (0, [])
noncomputable def pz_match (i w : Int) (z : pz_Z) : Int := pz_if (¬ (pz_isM z i ∧ 0 ≤ w ∧ w ≤ 3)) (-1) (if w = 0 then (pz_mt z i).1 else if w = 1 then ((pz_mt z i).2.length : Int) else if w = 2 then pu_first (pz_mt z i).2 else pu_head (pz_mt z i).2)
def pz_nth (row : pu_Rw) (k : Int) : Int × Int := (row[row.length - 1 - k.toNat]?).getD (0, 0)
noncomputable def pz_member (i k h : Int) (z : pz_Z) : Int := pz_if (¬ (pz_isM z i ∧ (0 ≤ k ∧ k < (pz_mt z i).2.length) ∧ (0 ≤ h ∧ h ≤ 1))) (-1) (if h = 0 then (pz_nth (pz_mt z i).2 k).1 else (pz_nth (pz_mt z i).2 k).2)
def pz_has (row : pu_Rw) (e : Int) : Prop := ∃ s, (e, s) ∈ row
noncomputable def pz_mwith (z : pz_Z) (e : Int) : Int := pp_sum (fun i => bz (pz_has (pz_mt z i).2 e)) (min z.2.2.length 1000) 0
noncomputable def pz_told (e w : Int) (z : pz_Z) : Int := pz_if (¬ ((0 ≤ e ∧ e < z.1.1 0 0) ∧ (0 ≤ w ∧ w ≤ 7))) (-2000) (if w = 0 then z.1.2 0 0 e else if w = 1 then z.1.2 1 0 e else if w = 2 then z.1.2 4 0 e else if w = 7 then pz_mwith z e else z.1.2 2 0 (4 * e + (w - 3)))
/-- how many different events the runs of patterns from a to b have -/
noncomputable def pz_kept (z : pz_Z) (a b : Int) : Int := pp_sum (fun e => bz (∃ p, (a ≤ p ∧ p < b) ∧ ∃ x ∈ z.2.1 p, pz_has x.1 e)) (z.1.1 0 0).toNat 0
noncomputable def pz_hurt (L : List pu_Rn) : Int := ((L.filter (fun x => x.2)).length : Int)
noncomputable def pz_about (p w : Int) (z : pz_Z) : Int := pz_if (¬ ((0 ≤ p ∧ p < z.1.1 4 0) ∧ (0 ≤ w ∧ w ≤ 5))) (-1) (if w = 0 then z.1.2 15 p 0 else if w = 1 then ((z.2.1 p).length : Int) else if w = 2 then pz_hurt (z.2.1 p) else if w = 3 then z.1.2 21 p 0 else if w = 4 then z.1.2 20 p 0 else pz_kept z p (p + 1))
def pz_rn (z : pz_Z) (p r : Int) : pu_Rw := ((z.2.1 p)[r.toNat]?.getD ([], false)).1
noncomputable def pz_run (p r k h : Int) (z : pz_Z) : Int := pz_if (¬ ((0 ≤ p ∧ p < z.1.1 4 0) ∧ (0 ≤ r ∧ r < (z.2.1 p).length) ∧ (0 ≤ k ∧ k < (pz_rn z p r).length) ∧ (0 ≤ h ∧ h ≤ 1))) (-1) (if h = 0 then (pz_nth (pz_rn z p r) k).1 else (pz_nth (pz_rn z p r) k).2)
noncomputable def pz_almost (p n : Int) (z : pz_Z) : Int := pz_if (¬ ((0 ≤ p ∧ p < z.1.1 4 0) ∧ (0 ≤ n ∧ n ≤ 5))) (-1) (((z.2.1 p).filter (fun x => decide (pu_lk (pz_P z p) 7 (pu_tip x.1 + 1) ≤ n))).length : Int)
noncomputable def pz_plain (p : Int) (z : pz_Z) : Int := pz_if (¬ ((0 ≤ p ∧ p < z.1.1 4 0) ∧ z.1.2 20 p 0 ≠ 0)) (-1) (pz_if (12 < z.1.1 0 0 - z.1.2 19 p 0) (-6) (pp_all (pz_E z) (pz_P z p) (z.1.1 0 0) (z.1.2 19 p 0)))
noncomputable def pz_count (w : Int) (z : pz_Z) : Int := if w = 0 then z.1.1 4 0 else if w = 1 then z.1.1 0 0 else if w = 2 then z.1.1 1 0 - z.1.1 0 0 else if w = 3 then z.1.1 2 0 else if w = 4 then z.1.1 3 0 else if w = 5 then pz_kept z 0 (z.1.1 4 0) else -1
noncomputable def pz_is (a b : Int) (z : pz_Z) : Int := pz_if (¬ ((0 ≤ a ∧ a < 16) ∧ (0 ≤ b ∧ b < 16))) (-1) (bz (pu_is (z.1.2 3 0) 17 a b = true))
