/-! PART 32 (printed by wip/gen/gen32.py): the component's memory and the plain system's state -/
set_option maxRecDepth 10000
def z_isM (a : Nat) : Prop := a = 8 ∨ (7 ≤ a / 1048576 ∧ a / 1048576 ≤ 68)
def z_one (k x : Nat) : Option z_Ad := if x = 0 then none else some (k, x)
def z_per (x : Nat) : Option z_Ad := if x = 0 then none else some (9, x - 1)
def x_txt (σ : z_St) (t : Nat) (l : List Int32) : Prop := gI σ 1 1 t = Int32.ofNat l.length ∧ ∀ k, (h : k < l.length) → gI σ 80741649 t k = l[k]
theorem gI_wI (σ : z_St) (a b n : Nat) (x : Int32) (c d m : Nat) : gI (wI σ a b n x) c d m = if c = a ∧ d = b ∧ m = n then x else gI σ c d m := by
  show z_row (gI σ) a b (va_up (gI σ a b) n x) c d m = _
  unfold z_row va_up
  by_cases h : c = a ∧ d = b
  · rw [if_pos h]
    by_cases h2 : m = n
    · rw [if_pos h2, if_pos ⟨h.1, h.2, h2⟩]
    · rw [if_neg h2, if_neg (fun h3 => h2 h3.2.2), h.1, h.2]
  · rw [if_neg h, if_neg (fun h3 => h ⟨h3.1, h3.2.1⟩)]
theorem hI_rI (σ : z_St) (a b : Nat) (r : Nat → Int32) (c d m : Nat) : gI (rI σ a b r) c d m = if c = a ∧ d = b then r m else gI σ c d m := by
  show z_row (gI σ) a b r c d m = _
  unfold z_row
  by_cases h : c = a ∧ d = b
  · rw [if_pos h, if_pos h]
  · rw [if_neg h, if_neg h]
theorem gI_wJ (σ : z_St) (a b n : Nat) (x : Int64) (c d m : Nat) : gI (wJ σ a b n x) c d m = gI σ c d m := rfl
theorem hI_rJ (σ : z_St) (a b : Nat) (x : Nat → Int64) (c d m : Nat) : gI (rJ σ a b x) c d m = gI σ c d m := rfl
theorem gI_wR (σ : z_St) (a b n : Nat) (x : Option z_Ad) (c d m : Nat) : gI (wR σ a b n x) c d m = gI σ c d m := rfl
theorem hI_rR (σ : z_St) (a b : Nat) (x : Nat → Option z_Ad) (c d m : Nat) : gI (rR σ a b x) c d m = gI σ c d m := rfl
theorem gJ_wJ (σ : z_St) (a b n : Nat) (x : Int64) (c d m : Nat) : gJ (wJ σ a b n x) c d m = if c = a ∧ d = b ∧ m = n then x else gJ σ c d m := by
  show z_row (gJ σ) a b (va_up (gJ σ a b) n x) c d m = _
  unfold z_row va_up
  by_cases h : c = a ∧ d = b
  · rw [if_pos h]
    by_cases h2 : m = n
    · rw [if_pos h2, if_pos ⟨h.1, h.2, h2⟩]
    · rw [if_neg h2, if_neg (fun h3 => h2 h3.2.2), h.1, h.2]
  · rw [if_neg h, if_neg (fun h3 => h ⟨h3.1, h3.2.1⟩)]
theorem hJ_rJ (σ : z_St) (a b : Nat) (r : Nat → Int64) (c d m : Nat) : gJ (rJ σ a b r) c d m = if c = a ∧ d = b then r m else gJ σ c d m := by
  show z_row (gJ σ) a b r c d m = _
  unfold z_row
  by_cases h : c = a ∧ d = b
  · rw [if_pos h, if_pos h]
  · rw [if_neg h, if_neg h]
theorem gJ_wI (σ : z_St) (a b n : Nat) (x : Int32) (c d m : Nat) : gJ (wI σ a b n x) c d m = gJ σ c d m := rfl
theorem hJ_rI (σ : z_St) (a b : Nat) (x : Nat → Int32) (c d m : Nat) : gJ (rI σ a b x) c d m = gJ σ c d m := rfl
theorem gJ_wR (σ : z_St) (a b n : Nat) (x : Option z_Ad) (c d m : Nat) : gJ (wR σ a b n x) c d m = gJ σ c d m := rfl
theorem hJ_rR (σ : z_St) (a b : Nat) (x : Nat → Option z_Ad) (c d m : Nat) : gJ (rR σ a b x) c d m = gJ σ c d m := rfl
theorem gR_wR (σ : z_St) (a b n : Nat) (x : Option z_Ad) (c d m : Nat) : gR (wR σ a b n x) c d m = if c = a ∧ d = b ∧ m = n then x else gR σ c d m := by
  show z_row (gR σ) a b (va_up (gR σ a b) n x) c d m = _
  unfold z_row va_up
  by_cases h : c = a ∧ d = b
  · rw [if_pos h]
    by_cases h2 : m = n
    · rw [if_pos h2, if_pos ⟨h.1, h.2, h2⟩]
    · rw [if_neg h2, if_neg (fun h3 => h2 h3.2.2), h.1, h.2]
  · rw [if_neg h, if_neg (fun h3 => h ⟨h3.1, h3.2.1⟩)]
theorem hR_rR (σ : z_St) (a b : Nat) (r : Nat → Option z_Ad) (c d m : Nat) : gR (rR σ a b r) c d m = if c = a ∧ d = b then r m else gR σ c d m := by
  show z_row (gR σ) a b r c d m = _
  unfold z_row
  by_cases h : c = a ∧ d = b
  · rw [if_pos h, if_pos h]
  · rw [if_neg h, if_neg h]
theorem gR_wI (σ : z_St) (a b n : Nat) (x : Int32) (c d m : Nat) : gR (wI σ a b n x) c d m = gR σ c d m := rfl
theorem hR_rI (σ : z_St) (a b : Nat) (x : Nat → Int32) (c d m : Nat) : gR (rI σ a b x) c d m = gR σ c d m := rfl
theorem gR_wJ (σ : z_St) (a b n : Nat) (x : Int64) (c d m : Nat) : gR (wJ σ a b n x) c d m = gR σ c d m := rfl
theorem hR_rJ (σ : z_St) (a b : Nat) (x : Nat → Int64) (c d m : Nat) : gR (rJ σ a b x) c d m = gR σ c d m := rfl
def x_A (σ : z_St) : Prop := gR σ 0 0 0 = some (1, 0)
  ∧ gR σ 0 1 0 = some (1, 1)
  ∧ gR σ 0 2 0 = some (1, 2)
  ∧ gR σ 0 3 0 = some (1, 3)
  ∧ gR σ 0 4 0 = some (2, 0)
  ∧ gR σ 0 5 0 = some (3, 0)
  ∧ gR σ 0 6 0 = some (1048852, 0)
  ∧ gR σ 0 7 0 = some (2097301, 0)
  ∧ gR σ 0 9 0 = some (3146262, 0)
  ∧ gR σ 0 11 0 = some (4194839, 0)
  ∧ gR σ 0 13 0 = some (5244952, 0)
  ∧ gR σ 0 15 0 = some (6292505, 0)
  ∧ gR σ 2 0 0 = some (79714193, 0)
  ∧ gR σ 3 0 0 = some (75497658, 0)
  ∧ gR σ 3 8 0 = some (76548624, 0)
  ∧ gR σ 3 9 0 = some (77597200, 0)
  ∧ gR σ 3 10 0 = some (78645776, 0)
  ∧ (∀ i : Nat, gR σ 1 0 i = some (80741649, i))
  ∧ (∀ i : Nat, gR σ 4 4 i = some (73419537, i))
  ∧ (∀ i : Nat, gR σ 4 6 i = some (74512913, i))
  ∧ (∀ i : Nat, gR σ 5 0 i = some (1, 4 + 3 * i))
  ∧ (∀ i : Nat, gR σ 5 1 i = some (1, 5 + 3 * i))
  ∧ (∀ i : Nat, gR σ 5 2 i = some (1, 6 + 3 * i))
  ∧ (∀ i : Nat, gR σ 6 0 i = some (1, 52 + 3 * i))
  ∧ (∀ i : Nat, gR σ 6 1 i = some (1, 53 + 3 * i))
  ∧ (∀ i : Nat, gR σ 6 2 i = some (1, 54 + 3 * i))
  ∧ (∀ i : Nat, gR σ 7 0 i = some (1, 244 + i))
  ∧ (∀ i : Nat, gR σ 7 3 i = some (72361361, i))
  ∧ (∀ i : Nat, gR σ 9 1 i = some (1, 276 + i))
  ∧ (∀ k, k < 5 → gR σ 75497658 0 k = some (12, k))
  ∧ (∀ k, k < 8 → gR σ 1048852 0 k = some (4, k + 1) ∧ gI σ 4 0 (k + 1) = Int32.ofNat (k + 1))
  ∧ (∀ k, k < 64 → gR σ 5244952 0 k = some (6, k))
  ∧ x_txt σ 2 [104, 111, 109, 101]
  ∧ x_txt σ 3 [112, 101, 101, 114]
def x_B (σ : z_St) (A : w_A) : Prop := (∀ i : Nat, gI σ 9 3 i = vI A 0 i)
  ∧ (∀ i : Nat, gI σ 9 10 i = vI A 1 i)
  ∧ (∀ i : Nat, gI σ 9 11 i = vI A 2 i)
  ∧ (∀ i : Nat, gI σ 9 13 i = vI A 3 i)
  ∧ (∀ i : Nat, gI σ 9 14 i = vI A 4 i)
  ∧ (∀ i : Nat, gI σ 9 15 i = vI A 5 i)
  ∧ (∀ i : Nat, gI σ 9 16 i = vI A 6 i)
  ∧ (∀ i : Nat, gI σ 9 17 i = vI A 7 i)
  ∧ (∀ i : Nat, gI σ 9 7 i = vI A 8 i)
  ∧ (∀ i : Nat, gI σ 9 8 i = vI A 9 i)
  ∧ (∀ i : Nat, gI σ 9 9 i = vI A 10 i)
  ∧ (∀ i : Nat, gI σ 9 2 i = vI A 11 i)
  ∧ (∀ i : Nat, gI σ 4 1 i = vI A 12 i)
  ∧ (gI σ 0 19 0 = vI A 14 0)
  ∧ (∀ i : Nat, gI σ 6 5 i = vI A 15 i)
  ∧ (∀ i : Nat, gI σ 6 6 i = vI A 16 i)
  ∧ (∀ i : Nat, gI σ 6 7 i = vI A 17 i)
  ∧ (gI σ 0 21 0 = vI A 19 0)
def x_C (σ : z_St) (A : w_A) : Prop := (gI σ 0 8 0 = Int32.ofNat (vN A 0 0))
  ∧ (gI σ 0 10 0 = Int32.ofNat (vN A 1 0))
  ∧ (gI σ 0 12 0 = Int32.ofNat (vN A 2 0))
  ∧ (gI σ 0 14 0 = Int32.ofNat (vN A 3 0))
  ∧ (gI σ 0 16 0 = Int32.ofNat (vN A 4 0))
  ∧ (gI σ 0 17 0 = Int32.ofNat (vN A 5 0))
  ∧ (gI σ 0 18 0 = Int32.ofNat (vN A 6 0))
  ∧ (∀ i : Nat, gI σ 9 4 i = Int32.ofNat (vN A 7 i))
  ∧ (∀ i : Nat, gI σ 9 12 i = Int32.ofNat (vN A 8 i))
  ∧ (∀ i : Nat, gI σ 4 5 i = Int32.ofNat (vN A 14 i))
def x_D (σ : z_St) (A : w_A) : Prop := (∀ i : Nat, gJ σ 10 0 i = vJ A 0 i)
  ∧ (∀ i : Nat, gJ σ 10 1 i = vJ A 1 i)
  ∧ (∀ i : Nat, gJ σ 10 2 i = vJ A 2 i)
  ∧ (∀ i : Nat, gJ σ 10 3 i = vJ A 3 i)
  ∧ (∀ i : Nat, gJ σ 6 3 i = vJ A 4 i)
def x_E (σ : z_St) (A : w_A) : Prop := (∀ i : Nat, gR σ 9 5 i = z_one 4 (vN A 9 i))
  ∧ (∀ i : Nat, gR σ 9 6 i = z_one 4 (vN A 10 i))
  ∧ (∀ i : Nat, gR σ 4 2 i = z_per (vN A 11 i))
  ∧ (∀ i : Nat, gR σ 6 4 i = z_per (vN A 12 i))
  ∧ (∀ i : Nat, gI σ 4 3 i = b2i (vI A 13 i = 1))
def x_F (σ : z_St) (A : w_A) : Prop := (∀ k, k < vN A 0 0 → gR σ 2097301 0 k = some (9, k) ∧ gI σ 9 0 k = Int32.ofNat (k + 1))
  ∧ (∀ k, k < vN A 1 0 → gR σ 3146262 0 k = some (10, k))
def x_G (σ : z_St) (A : w_A) : Prop := x_txt σ 0 (vL A 0 0)
  ∧ x_txt σ 1 (vL A 1 0)
  ∧ (∀ i, i < 4 → x_txt σ (276 + i) (vL A 2 i))
  ∧ (∀ i, i < 64 → x_txt σ (52 + 3 * i) (vL A 7 i) ∧ x_txt σ (53 + 3 * i) (vL A 8 i) ∧ x_txt σ (54 + 3 * i) (vL A 9 i))
def x_H (σ : z_St) (A : w_A) : Prop := ∀ c, 1 ≤ c → c ≤ 8 → (vL A 3 c).length ≤ 2000 ∧ gI σ 4 8 c = Int32.ofNat (vL A 3 c).length ∧ ∃ f, f < 2000 ∧ gI σ 4 7 c = Int32.ofNat f ∧ ∀ k, (h : k < (vL A 3 c).length) → gI σ 74512913 c ((f + k) % 2000) = (vL A 3 c)[k]
def x_I (σ : z_St) (A : w_A) : Prop := ∀ c, 1 ≤ c → c ≤ 8 → ∀ k, k < 600 → gI σ 73419537 c k = vI A 64 (600 * c + k)
def x_J (σ : z_St) (A : w_A) : Prop := (∀ s, s < 16 → gR σ 4194839 0 s = some (5, vN A 17 s) ∧ vN A 17 s < 16 ∧ ∀ r, r < 16 → vN A 17 r = vN A 17 s → r = s)
  ∧ ((∀ t, t < 48 → ∃ n, n ≤ 40 ∧ gI σ 1 1 (4 + t) = Int32.ofNat n) ∧ ∀ o, o < 16 → ∃ a : Nat, gR σ 5 3 o = if a = 0 then none else some (10, a - 1))
  ∧ (∀ s, s < vN A 2 0 → gJ σ 5 4 (vN A 17 s) = vJ A 5 s ∧ gJ σ 5 5 (vN A 17 s) = vJ A 6 s ∧ gI σ 5 6 (vN A 17 s) = vI A 20 s ∧ gI σ 5 7 (vN A 17 s) = vI A 21 s ∧ gR σ 5 3 (vN A 17 s) = (if vN A 13 s = 0 then none else some (10, vN A 13 s - 1)) ∧ x_txt σ (4 + 3 * vN A 17 s) (vL A 4 s) ∧ x_txt σ (5 + 3 * vN A 17 s) (vL A 5 s) ∧ x_txt σ (6 + 3 * vN A 17 s) (vL A 6 s))
def x_K (σ : z_St) (A : w_A) : Prop := (∀ s, s < 32 → gR σ 6292505 0 s = some (7, vN A 18 s) ∧ vN A 18 s < 32 ∧ ∀ r, r < 32 → vN A 18 r = vN A 18 s → r = s)
  ∧ (∀ s, s < vN A 4 0 → gI σ 7 1 (vN A 18 s) = vI A 18 s ∧ gI σ 7 2 (vN A 18 s) = Int32.ofNat (vN A 15 s) ∧ x_txt σ (244 + vN A 18 s) (vL A 11 s) ∧ gI σ 7 4 (vN A 18 s) = Int32.ofNat (vL A 10 s).length ∧ ∀ j, (h : j < (vL A 10 s).length) → ¬ (1 ≤ j ∧ j ≤ 3) → gI σ 72361361 (vN A 18 s) j = (vL A 10 s)[j])
def x_L (σ : z_St) (A : w_A) : Prop := gI σ 2 1 0 = Int32.ofNat (vL A 12 0).length
  ∧ (∀ k, (h : k < (vL A 12 0).length) → ¬ (1 ≤ k ∧ k ≤ 3) → gI σ 79714193 0 k = (vL A 12 0)[k])
def x_msg (σ : z_St) (P : w_P) : Prop := gR σ 3 1 0 = some (73419537, pC P) ∧ gI σ 3 3 0 = pF P ∧ gI σ 3 4 0 = pM P ∧ gI σ 3 5 0 = pA_ P ∧ gI σ 3 6 0 = pH P ∧ gI σ 3 7 0 = pE P ∧ gI σ 3 12 0 = pW P ∧ gI σ 3 13 0 = pX P ∧ gI σ 3 11 0 = Int32.ofNat (pN P).length ∧ ∀ k, (h : k < (pN P).length) → gI σ 76548624 0 k = (pN P)[k].1 ∧ gI σ 77597200 0 k = Int32.ofNat (pN P)[k].2.1 ∧ gI σ 78645776 0 k = Int32.ofNat (pN P)[k].2.2
def x_M (σ : z_St) (A : w_A) : Prop := ∀ P, vP A = some P → x_msg σ P
def x_N (σ : z_St) (A : w_A) : Prop := (vN A 16 0 = 0 → gR σ 0 20 0 = none)
  ∧ (∀ s, s < 16 → vN A 16 0 = s + 1 → gR σ 0 20 0 = some (5, vN A 17 s))
def x_T (T σ : z_St) : Prop := (∀ a, z_isM a ∨ a = 14 → gI σ a = gI T a ∧ gJ σ a = gJ T a ∧ gR σ a = gR T a) ∧ cn σ = cn T ∧ al σ = al T
def w_X (T σ : z_St) (A : w_A) : Prop := x_T T σ ∧ x_A σ ∧ x_B σ A ∧ x_C σ A ∧ x_D σ A ∧ x_E σ A ∧ x_F σ A ∧ x_G σ A ∧ x_H σ A ∧ x_I σ A ∧ x_J σ A ∧ x_K σ A ∧ x_L σ A ∧ x_M σ A ∧ x_N σ A
theorem rx_p0_0 {T σ : z_St} {A : w_A} (h : w_X T σ A) : gR σ 0 0 0 = some (1, 0) := h.2.1.1
theorem rx_p0_1 {T σ : z_St} {A : w_A} (h : w_X T σ A) : gR σ 0 1 0 = some (1, 1) := h.2.1.2.1
theorem rx_p0_2 {T σ : z_St} {A : w_A} (h : w_X T σ A) : gR σ 0 2 0 = some (1, 2) := h.2.1.2.2.1
theorem rx_p0_3 {T σ : z_St} {A : w_A} (h : w_X T σ A) : gR σ 0 3 0 = some (1, 3) := h.2.1.2.2.2.1
theorem rx_p0_4 {T σ : z_St} {A : w_A} (h : w_X T σ A) : gR σ 0 4 0 = some (2, 0) := h.2.1.2.2.2.2.1
theorem rx_p0_5 {T σ : z_St} {A : w_A} (h : w_X T σ A) : gR σ 0 5 0 = some (3, 0) := h.2.1.2.2.2.2.2.1
theorem rx_p0_6 {T σ : z_St} {A : w_A} (h : w_X T σ A) : gR σ 0 6 0 = some (1048852, 0) := h.2.1.2.2.2.2.2.2.1
theorem rx_p0_7 {T σ : z_St} {A : w_A} (h : w_X T σ A) : gR σ 0 7 0 = some (2097301, 0) := h.2.1.2.2.2.2.2.2.2.1
theorem rx_p0_9 {T σ : z_St} {A : w_A} (h : w_X T σ A) : gR σ 0 9 0 = some (3146262, 0) := h.2.1.2.2.2.2.2.2.2.2.1
theorem rx_p0_11 {T σ : z_St} {A : w_A} (h : w_X T σ A) : gR σ 0 11 0 = some (4194839, 0) := h.2.1.2.2.2.2.2.2.2.2.2.1
theorem rx_p0_13 {T σ : z_St} {A : w_A} (h : w_X T σ A) : gR σ 0 13 0 = some (5244952, 0) := h.2.1.2.2.2.2.2.2.2.2.2.2.1
theorem rx_p0_15 {T σ : z_St} {A : w_A} (h : w_X T σ A) : gR σ 0 15 0 = some (6292505, 0) := h.2.1.2.2.2.2.2.2.2.2.2.2.2.1
theorem rx_p2_0 {T σ : z_St} {A : w_A} (h : w_X T σ A) : gR σ 2 0 0 = some (79714193, 0) := h.2.1.2.2.2.2.2.2.2.2.2.2.2.2.1
theorem rx_p3_0 {T σ : z_St} {A : w_A} (h : w_X T σ A) : gR σ 3 0 0 = some (75497658, 0) := h.2.1.2.2.2.2.2.2.2.2.2.2.2.2.2.1
theorem rx_p3_8 {T σ : z_St} {A : w_A} (h : w_X T σ A) : gR σ 3 8 0 = some (76548624, 0) := h.2.1.2.2.2.2.2.2.2.2.2.2.2.2.2.2.1
theorem rx_p3_9 {T σ : z_St} {A : w_A} (h : w_X T σ A) : gR σ 3 9 0 = some (77597200, 0) := h.2.1.2.2.2.2.2.2.2.2.2.2.2.2.2.2.2.1
theorem rx_p3_10 {T σ : z_St} {A : w_A} (h : w_X T σ A) : gR σ 3 10 0 = some (78645776, 0) := h.2.1.2.2.2.2.2.2.2.2.2.2.2.2.2.2.2.2.1
theorem rx_p1_0 {T σ : z_St} {A : w_A} (h : w_X T σ A) (i : Nat) : gR σ 1 0 i = some (80741649, i) := h.2.1.2.2.2.2.2.2.2.2.2.2.2.2.2.2.2.2.2.1 i
theorem rx_p4_4 {T σ : z_St} {A : w_A} (h : w_X T σ A) (i : Nat) : gR σ 4 4 i = some (73419537, i) := h.2.1.2.2.2.2.2.2.2.2.2.2.2.2.2.2.2.2.2.2.1 i
theorem rx_p4_6 {T σ : z_St} {A : w_A} (h : w_X T σ A) (i : Nat) : gR σ 4 6 i = some (74512913, i) := h.2.1.2.2.2.2.2.2.2.2.2.2.2.2.2.2.2.2.2.2.2.1 i
theorem rx_p5_0 {T σ : z_St} {A : w_A} (h : w_X T σ A) (i : Nat) : gR σ 5 0 i = some (1, 4 + 3 * i) := h.2.1.2.2.2.2.2.2.2.2.2.2.2.2.2.2.2.2.2.2.2.2.1 i
theorem rx_p5_1 {T σ : z_St} {A : w_A} (h : w_X T σ A) (i : Nat) : gR σ 5 1 i = some (1, 5 + 3 * i) := h.2.1.2.2.2.2.2.2.2.2.2.2.2.2.2.2.2.2.2.2.2.2.2.1 i
theorem rx_p5_2 {T σ : z_St} {A : w_A} (h : w_X T σ A) (i : Nat) : gR σ 5 2 i = some (1, 6 + 3 * i) := h.2.1.2.2.2.2.2.2.2.2.2.2.2.2.2.2.2.2.2.2.2.2.2.2.1 i
theorem rx_p6_0 {T σ : z_St} {A : w_A} (h : w_X T σ A) (i : Nat) : gR σ 6 0 i = some (1, 52 + 3 * i) := h.2.1.2.2.2.2.2.2.2.2.2.2.2.2.2.2.2.2.2.2.2.2.2.2.2.1 i
theorem rx_p6_1 {T σ : z_St} {A : w_A} (h : w_X T σ A) (i : Nat) : gR σ 6 1 i = some (1, 53 + 3 * i) := h.2.1.2.2.2.2.2.2.2.2.2.2.2.2.2.2.2.2.2.2.2.2.2.2.2.2.1 i
theorem rx_p6_2 {T σ : z_St} {A : w_A} (h : w_X T σ A) (i : Nat) : gR σ 6 2 i = some (1, 54 + 3 * i) := h.2.1.2.2.2.2.2.2.2.2.2.2.2.2.2.2.2.2.2.2.2.2.2.2.2.2.2.1 i
theorem rx_p7_0 {T σ : z_St} {A : w_A} (h : w_X T σ A) (i : Nat) : gR σ 7 0 i = some (1, 244 + i) := h.2.1.2.2.2.2.2.2.2.2.2.2.2.2.2.2.2.2.2.2.2.2.2.2.2.2.2.2.1 i
theorem rx_p7_3 {T σ : z_St} {A : w_A} (h : w_X T σ A) (i : Nat) : gR σ 7 3 i = some (72361361, i) := h.2.1.2.2.2.2.2.2.2.2.2.2.2.2.2.2.2.2.2.2.2.2.2.2.2.2.2.2.2.1 i
theorem rx_p9_1 {T σ : z_St} {A : w_A} (h : w_X T σ A) (i : Nat) : gR σ 9 1 i = some (1, 276 + i) := h.2.1.2.2.2.2.2.2.2.2.2.2.2.2.2.2.2.2.2.2.2.2.2.2.2.2.2.2.2.2.1 i
theorem rx_cmds {T σ : z_St} {A : w_A} (h : w_X T σ A) : ∀ k, k < 5 → gR σ 75497658 0 k = some (12, k) := h.2.1.2.2.2.2.2.2.2.2.2.2.2.2.2.2.2.2.2.2.2.2.2.2.2.2.2.2.2.2.2.1
theorem rx_links {T σ : z_St} {A : w_A} (h : w_X T σ A) : ∀ k, k < 8 → gR σ 1048852 0 k = some (4, k + 1) ∧ gI σ 4 0 (k + 1) = Int32.ofNat (k + 1) := h.2.1.2.2.2.2.2.2.2.2.2.2.2.2.2.2.2.2.2.2.2.2.2.2.2.2.2.2.2.2.2.2.1
theorem rx_asks {T σ : z_St} {A : w_A} (h : w_X T σ A) : ∀ k, k < 64 → gR σ 5244952 0 k = some (6, k) := h.2.1.2.2.2.2.2.2.2.2.2.2.2.2.2.2.2.2.2.2.2.2.2.2.2.2.2.2.2.2.2.2.2.1
theorem rx_realm {T σ : z_St} {A : w_A} (h : w_X T σ A) : x_txt σ 2 [104, 111, 109, 101] := h.2.1.2.2.2.2.2.2.2.2.2.2.2.2.2.2.2.2.2.2.2.2.2.2.2.2.2.2.2.2.2.2.2.2.1
theorem rx_prod {T σ : z_St} {A : w_A} (h : w_X T σ A) : x_txt σ 3 [112, 101, 101, 114] := h.2.1.2.2.2.2.2.2.2.2.2.2.2.2.2.2.2.2.2.2.2.2.2.2.2.2.2.2.2.2.2.2.2.2.2
theorem rx_AT {T σ : z_St} {A : w_A} (h : w_X T σ A) : x_txt σ 0 (vL A 0 0) := h.2.2.2.2.2.2.2.1.1
theorem rx_HOST {T σ : z_St} {A : w_A} (h : w_X T σ A) : x_txt σ 1 (vL A 1 0) := h.2.2.2.2.2.2.2.1.2.1
theorem rx_PNAME {T σ : z_St} {A : w_A} (h : w_X T σ A) : ∀ i, i < 4 → x_txt σ (276 + i) (vL A 2 i) := h.2.2.2.2.2.2.2.1.2.2.1
theorem rx_QN {T σ : z_St} {A : w_A} (h : w_X T σ A) : ∀ i, i < 64 → x_txt σ (52 + 3 * i) (vL A 7 i) ∧ x_txt σ (53 + 3 * i) (vL A 8 i) ∧ x_txt σ (54 + 3 * i) (vL A 9 i) := h.2.2.2.2.2.2.2.1.2.2.2
theorem rx_H {T σ : z_St} {A : w_A} (h : w_X T σ A) : x_H σ A := h.2.2.2.2.2.2.2.2.1
theorem rx_I {T σ : z_St} {A : w_A} (h : w_X T σ A) : x_I σ A := h.2.2.2.2.2.2.2.2.2.1
theorem rx_J {T σ : z_St} {A : w_A} (h : w_X T σ A) : x_J σ A := h.2.2.2.2.2.2.2.2.2.2.1
theorem rx_K {T σ : z_St} {A : w_A} (h : w_X T σ A) : x_K σ A := h.2.2.2.2.2.2.2.2.2.2.2.1
theorem rx_M {T σ : z_St} {A : w_A} (h : w_X T σ A) : x_M σ A := h.2.2.2.2.2.2.2.2.2.2.2.2.2.1
theorem rx_N {T σ : z_St} {A : w_A} (h : w_X T σ A) : x_N σ A := h.2.2.2.2.2.2.2.2.2.2.2.2.2.2
theorem rx_F {T σ : z_St} {A : w_A} (h : w_X T σ A) : x_F σ A := h.2.2.2.2.2.2.1
theorem rx_ST {T σ : z_St} {A : w_A} (h : w_X T σ A) (i : Nat) : gI σ 9 3 i = vI A 0 i := h.2.2.1.1 i
theorem rx_STAT {T σ : z_St} {A : w_A} (h : w_X T σ A) (i : Nat) : gI σ 9 10 i = vI A 1 i := h.2.2.1.2.1 i
theorem rx_AWAIT {T σ : z_St} {A : w_A} (h : w_X T σ A) (i : Nat) : gI σ 9 11 i = vI A 2 i := h.2.2.1.2.2.1 i
theorem rx_OVER {T σ : z_St} {A : w_A} (h : w_X T σ A) (i : Nat) : gI σ 9 13 i = vI A 3 i := h.2.2.1.2.2.2.1 i
theorem rx_ANSW {T σ : z_St} {A : w_A} (h : w_X T σ A) (i : Nat) : gI σ 9 14 i = vI A 4 i := h.2.2.1.2.2.2.2.1 i
theorem rx_OHOP {T σ : z_St} {A : w_A} (h : w_X T σ A) (i : Nat) : gI σ 9 15 i = vI A 5 i := h.2.2.1.2.2.2.2.2.1 i
theorem rx_WHOP {T σ : z_St} {A : w_A} (h : w_X T σ A) (i : Nat) : gI σ 9 16 i = vI A 6 i := h.2.2.1.2.2.2.2.2.2.1 i
theorem rx_EHOP {T σ : z_St} {A : w_A} (h : w_X T σ A) (i : Nat) : gI σ 9 17 i = vI A 7 i := h.2.2.1.2.2.2.2.2.2.2.1 i
theorem rx_CFL {T σ : z_St} {A : w_A} (h : w_X T σ A) (i : Nat) : gI σ 9 7 i = vI A 8 i := h.2.2.1.2.2.2.2.2.2.2.2.1 i
theorem rx_CHOP {T σ : z_St} {A : w_A} (h : w_X T σ A) (i : Nat) : gI σ 9 8 i = vI A 9 i := h.2.2.1.2.2.2.2.2.2.2.2.2.1 i
theorem rx_CEND {T σ : z_St} {A : w_A} (h : w_X T σ A) (i : Nat) : gI σ 9 9 i = vI A 10 i := h.2.2.1.2.2.2.2.2.2.2.2.2.2.1 i
theorem rx_STARTS {T σ : z_St} {A : w_A} (h : w_X T σ A) (i : Nat) : gI σ 9 2 i = vI A 11 i := h.2.2.1.2.2.2.2.2.2.2.2.2.2.2.1 i
theorem rx_CST {T σ : z_St} {A : w_A} (h : w_X T σ A) (i : Nat) : gI σ 4 1 i = vI A 12 i := h.2.2.1.2.2.2.2.2.2.2.2.2.2.2.2.1 i
theorem rx_LOST {T σ : z_St} {A : w_A} (h : w_X T σ A) : gI σ 0 19 0 = vI A 14 0 := h.2.2.1.2.2.2.2.2.2.2.2.2.2.2.2.2.1
theorem rx_QTIMES {T σ : z_St} {A : w_A} (h : w_X T σ A) (i : Nat) : gI σ 6 5 i = vI A 15 i := h.2.2.1.2.2.2.2.2.2.2.2.2.2.2.2.2.2.1 i
theorem rx_QHOP {T σ : z_St} {A : w_A} (h : w_X T σ A) (i : Nat) : gI σ 6 6 i = vI A 16 i := h.2.2.1.2.2.2.2.2.2.2.2.2.2.2.2.2.2.2.1 i
theorem rx_QEND {T σ : z_St} {A : w_A} (h : w_X T σ A) (i : Nat) : gI σ 6 7 i = vI A 17 i := h.2.2.1.2.2.2.2.2.2.2.2.2.2.2.2.2.2.2.2.1 i
theorem rx_ENOUGH {T σ : z_St} {A : w_A} (h : w_X T σ A) : gI σ 0 21 0 = vI A 19 0 := h.2.2.1.2.2.2.2.2.2.2.2.2.2.2.2.2.2.2.2.2
theorem rx_PEERS {T σ : z_St} {A : w_A} (h : w_X T σ A) : gI σ 0 8 0 = Int32.ofNat (vN A 0 0) := h.2.2.2.1.1
theorem rx_ACCS {T σ : z_St} {A : w_A} (h : w_X T σ A) : gI σ 0 10 0 = Int32.ofNat (vN A 1 0) := h.2.2.2.1.2.1
theorem rx_SESS {T σ : z_St} {A : w_A} (h : w_X T σ A) : gI σ 0 12 0 = Int32.ofNat (vN A 2 0) := h.2.2.2.1.2.2.1
theorem rx_ASKS {T σ : z_St} {A : w_A} (h : w_X T σ A) : gI σ 0 14 0 = Int32.ofNat (vN A 3 0) := h.2.2.2.1.2.2.2.1
theorem rx_KEPTS {T σ : z_St} {A : w_A} (h : w_X T σ A) : gI σ 0 16 0 = Int32.ofNat (vN A 4 0) := h.2.2.2.1.2.2.2.2.1
theorem rx_NOW {T σ : z_St} {A : w_A} (h : w_X T σ A) : gI σ 0 17 0 = Int32.ofNat (vN A 5 0) := h.2.2.2.1.2.2.2.2.2.1
theorem rx_HOPS {T σ : z_St} {A : w_A} (h : w_X T σ A) : gI σ 0 18 0 = Int32.ofNat (vN A 6 0) := h.2.2.2.1.2.2.2.2.2.2.1
theorem rx_LIM {T σ : z_St} {A : w_A} (h : w_X T σ A) (i : Nat) : gI σ 9 4 i = Int32.ofNat (vN A 7 i) := h.2.2.2.1.2.2.2.2.2.2.2.1 i
theorem rx_DUE {T σ : z_St} {A : w_A} (h : w_X T σ A) (i : Nat) : gI σ 9 12 i = Int32.ofNat (vN A 8 i) := h.2.2.2.1.2.2.2.2.2.2.2.2.1 i
theorem rx_INL {T σ : z_St} {A : w_A} (h : w_X T σ A) (i : Nat) : gI σ 4 5 i = Int32.ofNat (vN A 14 i) := h.2.2.2.1.2.2.2.2.2.2.2.2.2 i
theorem rx_ANUM {T σ : z_St} {A : w_A} (h : w_X T σ A) (i : Nat) : gJ σ 10 0 i = vJ A 0 i := h.2.2.2.2.1.1 i
theorem rx_ABAL {T σ : z_St} {A : w_A} (h : w_X T σ A) (i : Nat) : gJ σ 10 1 i = vJ A 1 i := h.2.2.2.2.1.2.1 i
theorem rx_ARES {T σ : z_St} {A : w_A} (h : w_X T σ A) (i : Nat) : gJ σ 10 2 i = vJ A 2 i := h.2.2.2.2.1.2.2.1 i
theorem rx_ACHG {T σ : z_St} {A : w_A} (h : w_X T σ A) (i : Nat) : gJ σ 10 3 i = vJ A 3 i := h.2.2.2.2.1.2.2.2.1 i
theorem rx_QRES {T σ : z_St} {A : w_A} (h : w_X T σ A) (i : Nat) : gJ σ 6 3 i = vJ A 4 i := h.2.2.2.2.1.2.2.2.2 i
theorem rx_OWN {T σ : z_St} {A : w_A} (h : w_X T σ A) (i : Nat) : gR σ 9 5 i = z_one 4 (vN A 9 i) := h.2.2.2.2.2.1.1 i
theorem rx_CAME {T σ : z_St} {A : w_A} (h : w_X T σ A) (i : Nat) : gR σ 9 6 i = z_one 4 (vN A 10 i) := h.2.2.2.2.2.1.2.1 i
theorem rx_CPEER {T σ : z_St} {A : w_A} (h : w_X T σ A) (i : Nat) : gR σ 4 2 i = z_per (vN A 11 i) := h.2.2.2.2.2.1.2.2.1 i
theorem rx_QPEER {T σ : z_St} {A : w_A} (h : w_X T σ A) (i : Nat) : gR σ 6 4 i = z_per (vN A 12 i) := h.2.2.2.2.2.1.2.2.2.1 i
theorem rx_CROLE {T σ : z_St} {A : w_A} (h : w_X T σ A) (i : Nat) : gI σ 4 3 i = b2i (vI A 13 i = 1) := h.2.2.2.2.2.1.2.2.2.2 i
theorem x_T_wI {T σ : z_St} {a b n : Nat} {x : Int32} (h : x_T T σ) (ha : ¬ (z_isM a ∨ a = 14)) : x_T T (wI σ a b n x) := by
  refine ⟨fun c hc => ?_, h.2⟩
  have e : c ≠ a := fun e => ha (e ▸ hc)
  obtain ⟨h1, h2, h3⟩ := h.1 c hc
  refine ⟨?_, ?_, ?_⟩
  · rw [← h1]; funext d m; simp only [gI_wI, gI_wJ, gI_wR, e, false_and, if_false]
  · rw [← h2]; funext d m; simp only [gJ_wI, gJ_wJ, gJ_wR, e, false_and, if_false]
  · rw [← h3]; funext d m; simp only [gR_wI, gR_wJ, gR_wR, e, false_and, if_false]
theorem x_T_wJ {T σ : z_St} {a b n : Nat} {x : Int64} (h : x_T T σ) (ha : ¬ (z_isM a ∨ a = 14)) : x_T T (wJ σ a b n x) := by
  refine ⟨fun c hc => ?_, h.2⟩
  have e : c ≠ a := fun e => ha (e ▸ hc)
  obtain ⟨h1, h2, h3⟩ := h.1 c hc
  refine ⟨?_, ?_, ?_⟩
  · rw [← h1]; funext d m; simp only [gI_wI, gI_wJ, gI_wR, e, false_and, if_false]
  · rw [← h2]; funext d m; simp only [gJ_wI, gJ_wJ, gJ_wR, e, false_and, if_false]
  · rw [← h3]; funext d m; simp only [gR_wI, gR_wJ, gR_wR, e, false_and, if_false]
theorem x_T_wR {T σ : z_St} {a b n : Nat} {x : Option z_Ad} (h : x_T T σ) (ha : ¬ (z_isM a ∨ a = 14)) : x_T T (wR σ a b n x) := by
  refine ⟨fun c hc => ?_, h.2⟩
  have e : c ≠ a := fun e => ha (e ▸ hc)
  obtain ⟨h1, h2, h3⟩ := h.1 c hc
  refine ⟨?_, ?_, ?_⟩
  · rw [← h1]; funext d m; simp only [gI_wI, gI_wJ, gI_wR, e, false_and, if_false]
  · rw [← h2]; funext d m; simp only [gJ_wI, gJ_wJ, gJ_wR, e, false_and, if_false]
  · rw [← h3]; funext d m; simp only [gR_wI, gR_wJ, gR_wR, e, false_and, if_false]
theorem z_isM_dec (a : Nat) (h : (decide (a = 8) || (decide (7 ≤ a / 1048576) && decide (a / 1048576 ≤ 68)) || decide (a = 14)) = false) : ¬ (z_isM a ∨ a = 14) := by
  unfold z_isM
  simp only [Bool.or_eq_false_iff, Bool.and_eq_false_iff, decide_eq_false_iff_not] at h
  omega
theorem wx_ST {T σ : z_St} {A : w_A} (h : w_X T σ A) (i : Nat) (x : Int32) : w_X T (wI σ 9 3 i x) (sI A 0 i x) := by
  obtain ⟨hT, hA, hB, hC, hD, hE, hF, hG, hH, hI, hJ, hK, hL, hM, hN⟩ := h
  refine ⟨x_T_wI hT (z_isM_dec _ rfl), hA, ?_, hC, hD, hE, hF, hG, hH, hI, hJ, hK, hL, hM, hN⟩
  · unfold x_B at hB ⊢
    refine ⟨?_, ?_, ?_, ?_, ?_, ?_, ?_, ?_, ?_, ?_, ?_, ?_, ?_, ?_, ?_, ?_, ?_, ?_⟩ <;> (try intro j) <;> simp only [hB, gI_wI, gI_wJ, gI_wR, gJ_wI, gJ_wJ, gJ_wR, gR_wI, gR_wJ, gR_wR, vI_sI, vI_sJ, vI_sN, vI_sL, vJ_sI, vJ_sJ, vJ_sN, vJ_sL, vN_sI, vN_sJ, vN_sN, vN_sL, vL_sI, vL_sJ, vL_sN, vL_sL, vI_tI, vI_tJ, vI_tN, vI_tL, vJ_tI, vJ_tJ, vJ_tN, vJ_tL, vN_tI, vN_tJ, vN_tN, vN_tL, vL_tI, vL_tJ, vL_tN, vL_tL, vI_sP, vJ_sP, vN_sP, vL_sP, vP_sI, vP_sJ, vP_sN, vP_sL, vP_sP, vP_tI, vP_tJ, vP_tN, vP_tL, Nat.reduceEqDiff, false_and, true_and, if_false, if_true, and_self, and_true, reduceIte, Nat.succ_ne_self, Nat.reduceEqDiff, Nat.reduceDiv, Nat.reduceMul, Nat.reduceAdd, false_and, and_false, true_and, and_true, and_self, if_false, if_true, reduceIte, reduceCtorEq, ne_eq, not_false_eq_true] <;> (first | (split <;> rfl) | rfl | congr)

theorem wx_STAT {T σ : z_St} {A : w_A} (h : w_X T σ A) (i : Nat) (x : Int32) : w_X T (wI σ 9 10 i x) (sI A 1 i x) := by
  obtain ⟨hT, hA, hB, hC, hD, hE, hF, hG, hH, hI, hJ, hK, hL, hM, hN⟩ := h
  refine ⟨x_T_wI hT (z_isM_dec _ rfl), hA, ?_, hC, hD, hE, hF, hG, hH, hI, hJ, hK, hL, hM, hN⟩
  · unfold x_B at hB ⊢
    refine ⟨?_, ?_, ?_, ?_, ?_, ?_, ?_, ?_, ?_, ?_, ?_, ?_, ?_, ?_, ?_, ?_, ?_, ?_⟩ <;> (try intro j) <;> simp only [hB, gI_wI, gI_wJ, gI_wR, gJ_wI, gJ_wJ, gJ_wR, gR_wI, gR_wJ, gR_wR, vI_sI, vI_sJ, vI_sN, vI_sL, vJ_sI, vJ_sJ, vJ_sN, vJ_sL, vN_sI, vN_sJ, vN_sN, vN_sL, vL_sI, vL_sJ, vL_sN, vL_sL, vI_tI, vI_tJ, vI_tN, vI_tL, vJ_tI, vJ_tJ, vJ_tN, vJ_tL, vN_tI, vN_tJ, vN_tN, vN_tL, vL_tI, vL_tJ, vL_tN, vL_tL, vI_sP, vJ_sP, vN_sP, vL_sP, vP_sI, vP_sJ, vP_sN, vP_sL, vP_sP, vP_tI, vP_tJ, vP_tN, vP_tL, Nat.reduceEqDiff, false_and, true_and, if_false, if_true, and_self, and_true, reduceIte, Nat.succ_ne_self, Nat.reduceEqDiff, Nat.reduceDiv, Nat.reduceMul, Nat.reduceAdd, false_and, and_false, true_and, and_true, and_self, if_false, if_true, reduceIte, reduceCtorEq, ne_eq, not_false_eq_true] <;> (first | (split <;> rfl) | rfl | congr)

theorem wx_AWAIT {T σ : z_St} {A : w_A} (h : w_X T σ A) (i : Nat) (x : Int32) : w_X T (wI σ 9 11 i x) (sI A 2 i x) := by
  obtain ⟨hT, hA, hB, hC, hD, hE, hF, hG, hH, hI, hJ, hK, hL, hM, hN⟩ := h
  refine ⟨x_T_wI hT (z_isM_dec _ rfl), hA, ?_, hC, hD, hE, hF, hG, hH, hI, hJ, hK, hL, hM, hN⟩
  · unfold x_B at hB ⊢
    refine ⟨?_, ?_, ?_, ?_, ?_, ?_, ?_, ?_, ?_, ?_, ?_, ?_, ?_, ?_, ?_, ?_, ?_, ?_⟩ <;> (try intro j) <;> simp only [hB, gI_wI, gI_wJ, gI_wR, gJ_wI, gJ_wJ, gJ_wR, gR_wI, gR_wJ, gR_wR, vI_sI, vI_sJ, vI_sN, vI_sL, vJ_sI, vJ_sJ, vJ_sN, vJ_sL, vN_sI, vN_sJ, vN_sN, vN_sL, vL_sI, vL_sJ, vL_sN, vL_sL, vI_tI, vI_tJ, vI_tN, vI_tL, vJ_tI, vJ_tJ, vJ_tN, vJ_tL, vN_tI, vN_tJ, vN_tN, vN_tL, vL_tI, vL_tJ, vL_tN, vL_tL, vI_sP, vJ_sP, vN_sP, vL_sP, vP_sI, vP_sJ, vP_sN, vP_sL, vP_sP, vP_tI, vP_tJ, vP_tN, vP_tL, Nat.reduceEqDiff, false_and, true_and, if_false, if_true, and_self, and_true, reduceIte, Nat.succ_ne_self, Nat.reduceEqDiff, Nat.reduceDiv, Nat.reduceMul, Nat.reduceAdd, false_and, and_false, true_and, and_true, and_self, if_false, if_true, reduceIte, reduceCtorEq, ne_eq, not_false_eq_true] <;> (first | (split <;> rfl) | rfl | congr)

theorem wx_OVER {T σ : z_St} {A : w_A} (h : w_X T σ A) (i : Nat) (x : Int32) : w_X T (wI σ 9 13 i x) (sI A 3 i x) := by
  obtain ⟨hT, hA, hB, hC, hD, hE, hF, hG, hH, hI, hJ, hK, hL, hM, hN⟩ := h
  refine ⟨x_T_wI hT (z_isM_dec _ rfl), hA, ?_, hC, hD, hE, hF, hG, hH, hI, hJ, hK, hL, hM, hN⟩
  · unfold x_B at hB ⊢
    refine ⟨?_, ?_, ?_, ?_, ?_, ?_, ?_, ?_, ?_, ?_, ?_, ?_, ?_, ?_, ?_, ?_, ?_, ?_⟩ <;> (try intro j) <;> simp only [hB, gI_wI, gI_wJ, gI_wR, gJ_wI, gJ_wJ, gJ_wR, gR_wI, gR_wJ, gR_wR, vI_sI, vI_sJ, vI_sN, vI_sL, vJ_sI, vJ_sJ, vJ_sN, vJ_sL, vN_sI, vN_sJ, vN_sN, vN_sL, vL_sI, vL_sJ, vL_sN, vL_sL, vI_tI, vI_tJ, vI_tN, vI_tL, vJ_tI, vJ_tJ, vJ_tN, vJ_tL, vN_tI, vN_tJ, vN_tN, vN_tL, vL_tI, vL_tJ, vL_tN, vL_tL, vI_sP, vJ_sP, vN_sP, vL_sP, vP_sI, vP_sJ, vP_sN, vP_sL, vP_sP, vP_tI, vP_tJ, vP_tN, vP_tL, Nat.reduceEqDiff, false_and, true_and, if_false, if_true, and_self, and_true, reduceIte, Nat.succ_ne_self, Nat.reduceEqDiff, Nat.reduceDiv, Nat.reduceMul, Nat.reduceAdd, false_and, and_false, true_and, and_true, and_self, if_false, if_true, reduceIte, reduceCtorEq, ne_eq, not_false_eq_true] <;> (first | (split <;> rfl) | rfl | congr)

theorem wx_ANSW {T σ : z_St} {A : w_A} (h : w_X T σ A) (i : Nat) (x : Int32) : w_X T (wI σ 9 14 i x) (sI A 4 i x) := by
  obtain ⟨hT, hA, hB, hC, hD, hE, hF, hG, hH, hI, hJ, hK, hL, hM, hN⟩ := h
  refine ⟨x_T_wI hT (z_isM_dec _ rfl), hA, ?_, hC, hD, hE, hF, hG, hH, hI, hJ, hK, hL, hM, hN⟩
  · unfold x_B at hB ⊢
    refine ⟨?_, ?_, ?_, ?_, ?_, ?_, ?_, ?_, ?_, ?_, ?_, ?_, ?_, ?_, ?_, ?_, ?_, ?_⟩ <;> (try intro j) <;> simp only [hB, gI_wI, gI_wJ, gI_wR, gJ_wI, gJ_wJ, gJ_wR, gR_wI, gR_wJ, gR_wR, vI_sI, vI_sJ, vI_sN, vI_sL, vJ_sI, vJ_sJ, vJ_sN, vJ_sL, vN_sI, vN_sJ, vN_sN, vN_sL, vL_sI, vL_sJ, vL_sN, vL_sL, vI_tI, vI_tJ, vI_tN, vI_tL, vJ_tI, vJ_tJ, vJ_tN, vJ_tL, vN_tI, vN_tJ, vN_tN, vN_tL, vL_tI, vL_tJ, vL_tN, vL_tL, vI_sP, vJ_sP, vN_sP, vL_sP, vP_sI, vP_sJ, vP_sN, vP_sL, vP_sP, vP_tI, vP_tJ, vP_tN, vP_tL, Nat.reduceEqDiff, false_and, true_and, if_false, if_true, and_self, and_true, reduceIte, Nat.succ_ne_self, Nat.reduceEqDiff, Nat.reduceDiv, Nat.reduceMul, Nat.reduceAdd, false_and, and_false, true_and, and_true, and_self, if_false, if_true, reduceIte, reduceCtorEq, ne_eq, not_false_eq_true] <;> (first | (split <;> rfl) | rfl | congr)

theorem wx_OHOP {T σ : z_St} {A : w_A} (h : w_X T σ A) (i : Nat) (x : Int32) : w_X T (wI σ 9 15 i x) (sI A 5 i x) := by
  obtain ⟨hT, hA, hB, hC, hD, hE, hF, hG, hH, hI, hJ, hK, hL, hM, hN⟩ := h
  refine ⟨x_T_wI hT (z_isM_dec _ rfl), hA, ?_, hC, hD, hE, hF, hG, hH, hI, hJ, hK, hL, hM, hN⟩
  · unfold x_B at hB ⊢
    refine ⟨?_, ?_, ?_, ?_, ?_, ?_, ?_, ?_, ?_, ?_, ?_, ?_, ?_, ?_, ?_, ?_, ?_, ?_⟩ <;> (try intro j) <;> simp only [hB, gI_wI, gI_wJ, gI_wR, gJ_wI, gJ_wJ, gJ_wR, gR_wI, gR_wJ, gR_wR, vI_sI, vI_sJ, vI_sN, vI_sL, vJ_sI, vJ_sJ, vJ_sN, vJ_sL, vN_sI, vN_sJ, vN_sN, vN_sL, vL_sI, vL_sJ, vL_sN, vL_sL, vI_tI, vI_tJ, vI_tN, vI_tL, vJ_tI, vJ_tJ, vJ_tN, vJ_tL, vN_tI, vN_tJ, vN_tN, vN_tL, vL_tI, vL_tJ, vL_tN, vL_tL, vI_sP, vJ_sP, vN_sP, vL_sP, vP_sI, vP_sJ, vP_sN, vP_sL, vP_sP, vP_tI, vP_tJ, vP_tN, vP_tL, Nat.reduceEqDiff, false_and, true_and, if_false, if_true, and_self, and_true, reduceIte, Nat.succ_ne_self, Nat.reduceEqDiff, Nat.reduceDiv, Nat.reduceMul, Nat.reduceAdd, false_and, and_false, true_and, and_true, and_self, if_false, if_true, reduceIte, reduceCtorEq, ne_eq, not_false_eq_true] <;> (first | (split <;> rfl) | rfl | congr)

theorem wx_WHOP {T σ : z_St} {A : w_A} (h : w_X T σ A) (i : Nat) (x : Int32) : w_X T (wI σ 9 16 i x) (sI A 6 i x) := by
  obtain ⟨hT, hA, hB, hC, hD, hE, hF, hG, hH, hI, hJ, hK, hL, hM, hN⟩ := h
  refine ⟨x_T_wI hT (z_isM_dec _ rfl), hA, ?_, hC, hD, hE, hF, hG, hH, hI, hJ, hK, hL, hM, hN⟩
  · unfold x_B at hB ⊢
    refine ⟨?_, ?_, ?_, ?_, ?_, ?_, ?_, ?_, ?_, ?_, ?_, ?_, ?_, ?_, ?_, ?_, ?_, ?_⟩ <;> (try intro j) <;> simp only [hB, gI_wI, gI_wJ, gI_wR, gJ_wI, gJ_wJ, gJ_wR, gR_wI, gR_wJ, gR_wR, vI_sI, vI_sJ, vI_sN, vI_sL, vJ_sI, vJ_sJ, vJ_sN, vJ_sL, vN_sI, vN_sJ, vN_sN, vN_sL, vL_sI, vL_sJ, vL_sN, vL_sL, vI_tI, vI_tJ, vI_tN, vI_tL, vJ_tI, vJ_tJ, vJ_tN, vJ_tL, vN_tI, vN_tJ, vN_tN, vN_tL, vL_tI, vL_tJ, vL_tN, vL_tL, vI_sP, vJ_sP, vN_sP, vL_sP, vP_sI, vP_sJ, vP_sN, vP_sL, vP_sP, vP_tI, vP_tJ, vP_tN, vP_tL, Nat.reduceEqDiff, false_and, true_and, if_false, if_true, and_self, and_true, reduceIte, Nat.succ_ne_self, Nat.reduceEqDiff, Nat.reduceDiv, Nat.reduceMul, Nat.reduceAdd, false_and, and_false, true_and, and_true, and_self, if_false, if_true, reduceIte, reduceCtorEq, ne_eq, not_false_eq_true] <;> (first | (split <;> rfl) | rfl | congr)

theorem wx_EHOP {T σ : z_St} {A : w_A} (h : w_X T σ A) (i : Nat) (x : Int32) : w_X T (wI σ 9 17 i x) (sI A 7 i x) := by
  obtain ⟨hT, hA, hB, hC, hD, hE, hF, hG, hH, hI, hJ, hK, hL, hM, hN⟩ := h
  refine ⟨x_T_wI hT (z_isM_dec _ rfl), hA, ?_, hC, hD, hE, hF, hG, hH, hI, hJ, hK, hL, hM, hN⟩
  · unfold x_B at hB ⊢
    refine ⟨?_, ?_, ?_, ?_, ?_, ?_, ?_, ?_, ?_, ?_, ?_, ?_, ?_, ?_, ?_, ?_, ?_, ?_⟩ <;> (try intro j) <;> simp only [hB, gI_wI, gI_wJ, gI_wR, gJ_wI, gJ_wJ, gJ_wR, gR_wI, gR_wJ, gR_wR, vI_sI, vI_sJ, vI_sN, vI_sL, vJ_sI, vJ_sJ, vJ_sN, vJ_sL, vN_sI, vN_sJ, vN_sN, vN_sL, vL_sI, vL_sJ, vL_sN, vL_sL, vI_tI, vI_tJ, vI_tN, vI_tL, vJ_tI, vJ_tJ, vJ_tN, vJ_tL, vN_tI, vN_tJ, vN_tN, vN_tL, vL_tI, vL_tJ, vL_tN, vL_tL, vI_sP, vJ_sP, vN_sP, vL_sP, vP_sI, vP_sJ, vP_sN, vP_sL, vP_sP, vP_tI, vP_tJ, vP_tN, vP_tL, Nat.reduceEqDiff, false_and, true_and, if_false, if_true, and_self, and_true, reduceIte, Nat.succ_ne_self, Nat.reduceEqDiff, Nat.reduceDiv, Nat.reduceMul, Nat.reduceAdd, false_and, and_false, true_and, and_true, and_self, if_false, if_true, reduceIte, reduceCtorEq, ne_eq, not_false_eq_true] <;> (first | (split <;> rfl) | rfl | congr)

theorem wx_CFL {T σ : z_St} {A : w_A} (h : w_X T σ A) (i : Nat) (x : Int32) : w_X T (wI σ 9 7 i x) (sI A 8 i x) := by
  obtain ⟨hT, hA, hB, hC, hD, hE, hF, hG, hH, hI, hJ, hK, hL, hM, hN⟩ := h
  refine ⟨x_T_wI hT (z_isM_dec _ rfl), hA, ?_, hC, hD, hE, hF, hG, hH, hI, hJ, hK, hL, hM, hN⟩
  · unfold x_B at hB ⊢
    refine ⟨?_, ?_, ?_, ?_, ?_, ?_, ?_, ?_, ?_, ?_, ?_, ?_, ?_, ?_, ?_, ?_, ?_, ?_⟩ <;> (try intro j) <;> simp only [hB, gI_wI, gI_wJ, gI_wR, gJ_wI, gJ_wJ, gJ_wR, gR_wI, gR_wJ, gR_wR, vI_sI, vI_sJ, vI_sN, vI_sL, vJ_sI, vJ_sJ, vJ_sN, vJ_sL, vN_sI, vN_sJ, vN_sN, vN_sL, vL_sI, vL_sJ, vL_sN, vL_sL, vI_tI, vI_tJ, vI_tN, vI_tL, vJ_tI, vJ_tJ, vJ_tN, vJ_tL, vN_tI, vN_tJ, vN_tN, vN_tL, vL_tI, vL_tJ, vL_tN, vL_tL, vI_sP, vJ_sP, vN_sP, vL_sP, vP_sI, vP_sJ, vP_sN, vP_sL, vP_sP, vP_tI, vP_tJ, vP_tN, vP_tL, Nat.reduceEqDiff, false_and, true_and, if_false, if_true, and_self, and_true, reduceIte, Nat.succ_ne_self, Nat.reduceEqDiff, Nat.reduceDiv, Nat.reduceMul, Nat.reduceAdd, false_and, and_false, true_and, and_true, and_self, if_false, if_true, reduceIte, reduceCtorEq, ne_eq, not_false_eq_true] <;> (first | (split <;> rfl) | rfl | congr)

theorem wx_CHOP {T σ : z_St} {A : w_A} (h : w_X T σ A) (i : Nat) (x : Int32) : w_X T (wI σ 9 8 i x) (sI A 9 i x) := by
  obtain ⟨hT, hA, hB, hC, hD, hE, hF, hG, hH, hI, hJ, hK, hL, hM, hN⟩ := h
  refine ⟨x_T_wI hT (z_isM_dec _ rfl), hA, ?_, hC, hD, hE, hF, hG, hH, hI, hJ, hK, hL, hM, hN⟩
  · unfold x_B at hB ⊢
    refine ⟨?_, ?_, ?_, ?_, ?_, ?_, ?_, ?_, ?_, ?_, ?_, ?_, ?_, ?_, ?_, ?_, ?_, ?_⟩ <;> (try intro j) <;> simp only [hB, gI_wI, gI_wJ, gI_wR, gJ_wI, gJ_wJ, gJ_wR, gR_wI, gR_wJ, gR_wR, vI_sI, vI_sJ, vI_sN, vI_sL, vJ_sI, vJ_sJ, vJ_sN, vJ_sL, vN_sI, vN_sJ, vN_sN, vN_sL, vL_sI, vL_sJ, vL_sN, vL_sL, vI_tI, vI_tJ, vI_tN, vI_tL, vJ_tI, vJ_tJ, vJ_tN, vJ_tL, vN_tI, vN_tJ, vN_tN, vN_tL, vL_tI, vL_tJ, vL_tN, vL_tL, vI_sP, vJ_sP, vN_sP, vL_sP, vP_sI, vP_sJ, vP_sN, vP_sL, vP_sP, vP_tI, vP_tJ, vP_tN, vP_tL, Nat.reduceEqDiff, false_and, true_and, if_false, if_true, and_self, and_true, reduceIte, Nat.succ_ne_self, Nat.reduceEqDiff, Nat.reduceDiv, Nat.reduceMul, Nat.reduceAdd, false_and, and_false, true_and, and_true, and_self, if_false, if_true, reduceIte, reduceCtorEq, ne_eq, not_false_eq_true] <;> (first | (split <;> rfl) | rfl | congr)

theorem wx_CEND {T σ : z_St} {A : w_A} (h : w_X T σ A) (i : Nat) (x : Int32) : w_X T (wI σ 9 9 i x) (sI A 10 i x) := by
  obtain ⟨hT, hA, hB, hC, hD, hE, hF, hG, hH, hI, hJ, hK, hL, hM, hN⟩ := h
  refine ⟨x_T_wI hT (z_isM_dec _ rfl), hA, ?_, hC, hD, hE, hF, hG, hH, hI, hJ, hK, hL, hM, hN⟩
  · unfold x_B at hB ⊢
    refine ⟨?_, ?_, ?_, ?_, ?_, ?_, ?_, ?_, ?_, ?_, ?_, ?_, ?_, ?_, ?_, ?_, ?_, ?_⟩ <;> (try intro j) <;> simp only [hB, gI_wI, gI_wJ, gI_wR, gJ_wI, gJ_wJ, gJ_wR, gR_wI, gR_wJ, gR_wR, vI_sI, vI_sJ, vI_sN, vI_sL, vJ_sI, vJ_sJ, vJ_sN, vJ_sL, vN_sI, vN_sJ, vN_sN, vN_sL, vL_sI, vL_sJ, vL_sN, vL_sL, vI_tI, vI_tJ, vI_tN, vI_tL, vJ_tI, vJ_tJ, vJ_tN, vJ_tL, vN_tI, vN_tJ, vN_tN, vN_tL, vL_tI, vL_tJ, vL_tN, vL_tL, vI_sP, vJ_sP, vN_sP, vL_sP, vP_sI, vP_sJ, vP_sN, vP_sL, vP_sP, vP_tI, vP_tJ, vP_tN, vP_tL, Nat.reduceEqDiff, false_and, true_and, if_false, if_true, and_self, and_true, reduceIte, Nat.succ_ne_self, Nat.reduceEqDiff, Nat.reduceDiv, Nat.reduceMul, Nat.reduceAdd, false_and, and_false, true_and, and_true, and_self, if_false, if_true, reduceIte, reduceCtorEq, ne_eq, not_false_eq_true] <;> (first | (split <;> rfl) | rfl | congr)

theorem wx_STARTS {T σ : z_St} {A : w_A} (h : w_X T σ A) (i : Nat) (x : Int32) : w_X T (wI σ 9 2 i x) (sI A 11 i x) := by
  obtain ⟨hT, hA, hB, hC, hD, hE, hF, hG, hH, hI, hJ, hK, hL, hM, hN⟩ := h
  refine ⟨x_T_wI hT (z_isM_dec _ rfl), hA, ?_, hC, hD, hE, hF, hG, hH, hI, hJ, hK, hL, hM, hN⟩
  · unfold x_B at hB ⊢
    refine ⟨?_, ?_, ?_, ?_, ?_, ?_, ?_, ?_, ?_, ?_, ?_, ?_, ?_, ?_, ?_, ?_, ?_, ?_⟩ <;> (try intro j) <;> simp only [hB, gI_wI, gI_wJ, gI_wR, gJ_wI, gJ_wJ, gJ_wR, gR_wI, gR_wJ, gR_wR, vI_sI, vI_sJ, vI_sN, vI_sL, vJ_sI, vJ_sJ, vJ_sN, vJ_sL, vN_sI, vN_sJ, vN_sN, vN_sL, vL_sI, vL_sJ, vL_sN, vL_sL, vI_tI, vI_tJ, vI_tN, vI_tL, vJ_tI, vJ_tJ, vJ_tN, vJ_tL, vN_tI, vN_tJ, vN_tN, vN_tL, vL_tI, vL_tJ, vL_tN, vL_tL, vI_sP, vJ_sP, vN_sP, vL_sP, vP_sI, vP_sJ, vP_sN, vP_sL, vP_sP, vP_tI, vP_tJ, vP_tN, vP_tL, Nat.reduceEqDiff, false_and, true_and, if_false, if_true, and_self, and_true, reduceIte, Nat.succ_ne_self, Nat.reduceEqDiff, Nat.reduceDiv, Nat.reduceMul, Nat.reduceAdd, false_and, and_false, true_and, and_true, and_self, if_false, if_true, reduceIte, reduceCtorEq, ne_eq, not_false_eq_true] <;> (first | (split <;> rfl) | rfl | congr)

theorem wx_CST {T σ : z_St} {A : w_A} (h : w_X T σ A) (i : Nat) (x : Int32) : w_X T (wI σ 4 1 i x) (sI A 12 i x) := by
  obtain ⟨hT, hA, hB, hC, hD, hE, hF, hG, hH, hI, hJ, hK, hL, hM, hN⟩ := h
  refine ⟨x_T_wI hT (z_isM_dec _ rfl), hA, ?_, hC, hD, hE, hF, hG, hH, hI, hJ, hK, hL, hM, hN⟩
  · unfold x_B at hB ⊢
    refine ⟨?_, ?_, ?_, ?_, ?_, ?_, ?_, ?_, ?_, ?_, ?_, ?_, ?_, ?_, ?_, ?_, ?_, ?_⟩ <;> (try intro j) <;> simp only [hB, gI_wI, gI_wJ, gI_wR, gJ_wI, gJ_wJ, gJ_wR, gR_wI, gR_wJ, gR_wR, vI_sI, vI_sJ, vI_sN, vI_sL, vJ_sI, vJ_sJ, vJ_sN, vJ_sL, vN_sI, vN_sJ, vN_sN, vN_sL, vL_sI, vL_sJ, vL_sN, vL_sL, vI_tI, vI_tJ, vI_tN, vI_tL, vJ_tI, vJ_tJ, vJ_tN, vJ_tL, vN_tI, vN_tJ, vN_tN, vN_tL, vL_tI, vL_tJ, vL_tN, vL_tL, vI_sP, vJ_sP, vN_sP, vL_sP, vP_sI, vP_sJ, vP_sN, vP_sL, vP_sP, vP_tI, vP_tJ, vP_tN, vP_tL, Nat.reduceEqDiff, false_and, true_and, if_false, if_true, and_self, and_true, reduceIte, Nat.succ_ne_self, Nat.reduceEqDiff, Nat.reduceDiv, Nat.reduceMul, Nat.reduceAdd, false_and, and_false, true_and, and_true, and_self, if_false, if_true, reduceIte, reduceCtorEq, ne_eq, not_false_eq_true] <;> (first | (split <;> rfl) | rfl | congr)

theorem wx_LOST {T σ : z_St} {A : w_A} (h : w_X T σ A) (x : Int32) : w_X T (wI σ 0 19 0 x) (sI A 14 0 x) := by
  obtain ⟨hT, hA, hB, hC, hD, hE, hF, hG, hH, hI, hJ, hK, hL, hM, hN⟩ := h
  refine ⟨x_T_wI hT (z_isM_dec _ rfl), hA, ?_, hC, hD, hE, hF, hG, hH, hI, hJ, hK, hL, hM, hN⟩
  · unfold x_B at hB ⊢
    refine ⟨?_, ?_, ?_, ?_, ?_, ?_, ?_, ?_, ?_, ?_, ?_, ?_, ?_, ?_, ?_, ?_, ?_, ?_⟩ <;> (try intro j) <;> simp only [hB, gI_wI, gI_wJ, gI_wR, gJ_wI, gJ_wJ, gJ_wR, gR_wI, gR_wJ, gR_wR, vI_sI, vI_sJ, vI_sN, vI_sL, vJ_sI, vJ_sJ, vJ_sN, vJ_sL, vN_sI, vN_sJ, vN_sN, vN_sL, vL_sI, vL_sJ, vL_sN, vL_sL, vI_tI, vI_tJ, vI_tN, vI_tL, vJ_tI, vJ_tJ, vJ_tN, vJ_tL, vN_tI, vN_tJ, vN_tN, vN_tL, vL_tI, vL_tJ, vL_tN, vL_tL, vI_sP, vJ_sP, vN_sP, vL_sP, vP_sI, vP_sJ, vP_sN, vP_sL, vP_sP, vP_tI, vP_tJ, vP_tN, vP_tL, Nat.reduceEqDiff, false_and, true_and, if_false, if_true, and_self, and_true, reduceIte, Nat.succ_ne_self, Nat.reduceEqDiff, Nat.reduceDiv, Nat.reduceMul, Nat.reduceAdd, false_and, and_false, true_and, and_true, and_self, if_false, if_true, reduceIte, reduceCtorEq, ne_eq, not_false_eq_true] <;> (first | (split <;> rfl) | rfl | congr)

theorem wx_QTIMES {T σ : z_St} {A : w_A} (h : w_X T σ A) (i : Nat) (x : Int32) : w_X T (wI σ 6 5 i x) (sI A 15 i x) := by
  obtain ⟨hT, hA, hB, hC, hD, hE, hF, hG, hH, hI, hJ, hK, hL, hM, hN⟩ := h
  refine ⟨x_T_wI hT (z_isM_dec _ rfl), hA, ?_, hC, hD, hE, hF, hG, hH, hI, hJ, hK, hL, hM, hN⟩
  · unfold x_B at hB ⊢
    refine ⟨?_, ?_, ?_, ?_, ?_, ?_, ?_, ?_, ?_, ?_, ?_, ?_, ?_, ?_, ?_, ?_, ?_, ?_⟩ <;> (try intro j) <;> simp only [hB, gI_wI, gI_wJ, gI_wR, gJ_wI, gJ_wJ, gJ_wR, gR_wI, gR_wJ, gR_wR, vI_sI, vI_sJ, vI_sN, vI_sL, vJ_sI, vJ_sJ, vJ_sN, vJ_sL, vN_sI, vN_sJ, vN_sN, vN_sL, vL_sI, vL_sJ, vL_sN, vL_sL, vI_tI, vI_tJ, vI_tN, vI_tL, vJ_tI, vJ_tJ, vJ_tN, vJ_tL, vN_tI, vN_tJ, vN_tN, vN_tL, vL_tI, vL_tJ, vL_tN, vL_tL, vI_sP, vJ_sP, vN_sP, vL_sP, vP_sI, vP_sJ, vP_sN, vP_sL, vP_sP, vP_tI, vP_tJ, vP_tN, vP_tL, Nat.reduceEqDiff, false_and, true_and, if_false, if_true, and_self, and_true, reduceIte, Nat.succ_ne_self, Nat.reduceEqDiff, Nat.reduceDiv, Nat.reduceMul, Nat.reduceAdd, false_and, and_false, true_and, and_true, and_self, if_false, if_true, reduceIte, reduceCtorEq, ne_eq, not_false_eq_true] <;> (first | (split <;> rfl) | rfl | congr)

theorem wx_QHOP {T σ : z_St} {A : w_A} (h : w_X T σ A) (i : Nat) (x : Int32) : w_X T (wI σ 6 6 i x) (sI A 16 i x) := by
  obtain ⟨hT, hA, hB, hC, hD, hE, hF, hG, hH, hI, hJ, hK, hL, hM, hN⟩ := h
  refine ⟨x_T_wI hT (z_isM_dec _ rfl), hA, ?_, hC, hD, hE, hF, hG, hH, hI, hJ, hK, hL, hM, hN⟩
  · unfold x_B at hB ⊢
    refine ⟨?_, ?_, ?_, ?_, ?_, ?_, ?_, ?_, ?_, ?_, ?_, ?_, ?_, ?_, ?_, ?_, ?_, ?_⟩ <;> (try intro j) <;> simp only [hB, gI_wI, gI_wJ, gI_wR, gJ_wI, gJ_wJ, gJ_wR, gR_wI, gR_wJ, gR_wR, vI_sI, vI_sJ, vI_sN, vI_sL, vJ_sI, vJ_sJ, vJ_sN, vJ_sL, vN_sI, vN_sJ, vN_sN, vN_sL, vL_sI, vL_sJ, vL_sN, vL_sL, vI_tI, vI_tJ, vI_tN, vI_tL, vJ_tI, vJ_tJ, vJ_tN, vJ_tL, vN_tI, vN_tJ, vN_tN, vN_tL, vL_tI, vL_tJ, vL_tN, vL_tL, vI_sP, vJ_sP, vN_sP, vL_sP, vP_sI, vP_sJ, vP_sN, vP_sL, vP_sP, vP_tI, vP_tJ, vP_tN, vP_tL, Nat.reduceEqDiff, false_and, true_and, if_false, if_true, and_self, and_true, reduceIte, Nat.succ_ne_self, Nat.reduceEqDiff, Nat.reduceDiv, Nat.reduceMul, Nat.reduceAdd, false_and, and_false, true_and, and_true, and_self, if_false, if_true, reduceIte, reduceCtorEq, ne_eq, not_false_eq_true] <;> (first | (split <;> rfl) | rfl | congr)

theorem wx_QEND {T σ : z_St} {A : w_A} (h : w_X T σ A) (i : Nat) (x : Int32) : w_X T (wI σ 6 7 i x) (sI A 17 i x) := by
  obtain ⟨hT, hA, hB, hC, hD, hE, hF, hG, hH, hI, hJ, hK, hL, hM, hN⟩ := h
  refine ⟨x_T_wI hT (z_isM_dec _ rfl), hA, ?_, hC, hD, hE, hF, hG, hH, hI, hJ, hK, hL, hM, hN⟩
  · unfold x_B at hB ⊢
    refine ⟨?_, ?_, ?_, ?_, ?_, ?_, ?_, ?_, ?_, ?_, ?_, ?_, ?_, ?_, ?_, ?_, ?_, ?_⟩ <;> (try intro j) <;> simp only [hB, gI_wI, gI_wJ, gI_wR, gJ_wI, gJ_wJ, gJ_wR, gR_wI, gR_wJ, gR_wR, vI_sI, vI_sJ, vI_sN, vI_sL, vJ_sI, vJ_sJ, vJ_sN, vJ_sL, vN_sI, vN_sJ, vN_sN, vN_sL, vL_sI, vL_sJ, vL_sN, vL_sL, vI_tI, vI_tJ, vI_tN, vI_tL, vJ_tI, vJ_tJ, vJ_tN, vJ_tL, vN_tI, vN_tJ, vN_tN, vN_tL, vL_tI, vL_tJ, vL_tN, vL_tL, vI_sP, vJ_sP, vN_sP, vL_sP, vP_sI, vP_sJ, vP_sN, vP_sL, vP_sP, vP_tI, vP_tJ, vP_tN, vP_tL, Nat.reduceEqDiff, false_and, true_and, if_false, if_true, and_self, and_true, reduceIte, Nat.succ_ne_self, Nat.reduceEqDiff, Nat.reduceDiv, Nat.reduceMul, Nat.reduceAdd, false_and, and_false, true_and, and_true, and_self, if_false, if_true, reduceIte, reduceCtorEq, ne_eq, not_false_eq_true] <;> (first | (split <;> rfl) | rfl | congr)

theorem wx_ENOUGH {T σ : z_St} {A : w_A} (h : w_X T σ A) (x : Int32) : w_X T (wI σ 0 21 0 x) (sI A 19 0 x) := by
  obtain ⟨hT, hA, hB, hC, hD, hE, hF, hG, hH, hI, hJ, hK, hL, hM, hN⟩ := h
  refine ⟨x_T_wI hT (z_isM_dec _ rfl), hA, ?_, hC, hD, hE, hF, hG, hH, hI, hJ, hK, hL, hM, hN⟩
  · unfold x_B at hB ⊢
    refine ⟨?_, ?_, ?_, ?_, ?_, ?_, ?_, ?_, ?_, ?_, ?_, ?_, ?_, ?_, ?_, ?_, ?_, ?_⟩ <;> (try intro j) <;> simp only [hB, gI_wI, gI_wJ, gI_wR, gJ_wI, gJ_wJ, gJ_wR, gR_wI, gR_wJ, gR_wR, vI_sI, vI_sJ, vI_sN, vI_sL, vJ_sI, vJ_sJ, vJ_sN, vJ_sL, vN_sI, vN_sJ, vN_sN, vN_sL, vL_sI, vL_sJ, vL_sN, vL_sL, vI_tI, vI_tJ, vI_tN, vI_tL, vJ_tI, vJ_tJ, vJ_tN, vJ_tL, vN_tI, vN_tJ, vN_tN, vN_tL, vL_tI, vL_tJ, vL_tN, vL_tL, vI_sP, vJ_sP, vN_sP, vL_sP, vP_sI, vP_sJ, vP_sN, vP_sL, vP_sP, vP_tI, vP_tJ, vP_tN, vP_tL, Nat.reduceEqDiff, false_and, true_and, if_false, if_true, and_self, and_true, reduceIte, Nat.succ_ne_self, Nat.reduceEqDiff, Nat.reduceDiv, Nat.reduceMul, Nat.reduceAdd, false_and, and_false, true_and, and_true, and_self, if_false, if_true, reduceIte, reduceCtorEq, ne_eq, not_false_eq_true] <;> (first | (split <;> rfl) | rfl | congr)

theorem wx_ASKS {T σ : z_St} {A : w_A} (h : w_X T σ A) (x : Nat) : w_X T (wI σ 0 14 0 (Int32.ofNat x)) (sN A 3 0 x) := by
  obtain ⟨hT, hA, hB, hC, hD, hE, hF, hG, hH, hI, hJ, hK, hL, hM, hN⟩ := h
  refine ⟨x_T_wI hT (z_isM_dec _ rfl), hA, hB, ?_, hD, hE, hF, hG, hH, hI, hJ, hK, hL, hM, hN⟩
  · unfold x_C at hC ⊢
    refine ⟨?_, ?_, ?_, ?_, ?_, ?_, ?_, ?_, ?_, ?_⟩ <;> (try intro j) <;> simp only [hC, gI_wI, gI_wJ, gI_wR, gJ_wI, gJ_wJ, gJ_wR, gR_wI, gR_wJ, gR_wR, vI_sI, vI_sJ, vI_sN, vI_sL, vJ_sI, vJ_sJ, vJ_sN, vJ_sL, vN_sI, vN_sJ, vN_sN, vN_sL, vL_sI, vL_sJ, vL_sN, vL_sL, vI_tI, vI_tJ, vI_tN, vI_tL, vJ_tI, vJ_tJ, vJ_tN, vJ_tL, vN_tI, vN_tJ, vN_tN, vN_tL, vL_tI, vL_tJ, vL_tN, vL_tL, vI_sP, vJ_sP, vN_sP, vL_sP, vP_sI, vP_sJ, vP_sN, vP_sL, vP_sP, vP_tI, vP_tJ, vP_tN, vP_tL, Nat.reduceEqDiff, false_and, true_and, if_false, if_true, and_self, and_true, reduceIte, Nat.succ_ne_self, Nat.reduceEqDiff, Nat.reduceDiv, Nat.reduceMul, Nat.reduceAdd, false_and, and_false, true_and, and_true, and_self, if_false, if_true, reduceIte, reduceCtorEq, ne_eq, not_false_eq_true] <;> (first | (split <;> rfl) | rfl | congr)

theorem wx_NOW {T σ : z_St} {A : w_A} (h : w_X T σ A) (x : Nat) : w_X T (wI σ 0 17 0 (Int32.ofNat x)) (sN A 5 0 x) := by
  obtain ⟨hT, hA, hB, hC, hD, hE, hF, hG, hH, hI, hJ, hK, hL, hM, hN⟩ := h
  refine ⟨x_T_wI hT (z_isM_dec _ rfl), hA, hB, ?_, hD, hE, hF, hG, hH, hI, hJ, hK, hL, hM, hN⟩
  · unfold x_C at hC ⊢
    refine ⟨?_, ?_, ?_, ?_, ?_, ?_, ?_, ?_, ?_, ?_⟩ <;> (try intro j) <;> simp only [hC, gI_wI, gI_wJ, gI_wR, gJ_wI, gJ_wJ, gJ_wR, gR_wI, gR_wJ, gR_wR, vI_sI, vI_sJ, vI_sN, vI_sL, vJ_sI, vJ_sJ, vJ_sN, vJ_sL, vN_sI, vN_sJ, vN_sN, vN_sL, vL_sI, vL_sJ, vL_sN, vL_sL, vI_tI, vI_tJ, vI_tN, vI_tL, vJ_tI, vJ_tJ, vJ_tN, vJ_tL, vN_tI, vN_tJ, vN_tN, vN_tL, vL_tI, vL_tJ, vL_tN, vL_tL, vI_sP, vJ_sP, vN_sP, vL_sP, vP_sI, vP_sJ, vP_sN, vP_sL, vP_sP, vP_tI, vP_tJ, vP_tN, vP_tL, Nat.reduceEqDiff, false_and, true_and, if_false, if_true, and_self, and_true, reduceIte, Nat.succ_ne_self, Nat.reduceEqDiff, Nat.reduceDiv, Nat.reduceMul, Nat.reduceAdd, false_and, and_false, true_and, and_true, and_self, if_false, if_true, reduceIte, reduceCtorEq, ne_eq, not_false_eq_true] <;> (first | (split <;> rfl) | rfl | congr)

theorem wx_HOPS {T σ : z_St} {A : w_A} (h : w_X T σ A) (x : Nat) : w_X T (wI σ 0 18 0 (Int32.ofNat x)) (sN A 6 0 x) := by
  obtain ⟨hT, hA, hB, hC, hD, hE, hF, hG, hH, hI, hJ, hK, hL, hM, hN⟩ := h
  refine ⟨x_T_wI hT (z_isM_dec _ rfl), hA, hB, ?_, hD, hE, hF, hG, hH, hI, hJ, hK, hL, hM, hN⟩
  · unfold x_C at hC ⊢
    refine ⟨?_, ?_, ?_, ?_, ?_, ?_, ?_, ?_, ?_, ?_⟩ <;> (try intro j) <;> simp only [hC, gI_wI, gI_wJ, gI_wR, gJ_wI, gJ_wJ, gJ_wR, gR_wI, gR_wJ, gR_wR, vI_sI, vI_sJ, vI_sN, vI_sL, vJ_sI, vJ_sJ, vJ_sN, vJ_sL, vN_sI, vN_sJ, vN_sN, vN_sL, vL_sI, vL_sJ, vL_sN, vL_sL, vI_tI, vI_tJ, vI_tN, vI_tL, vJ_tI, vJ_tJ, vJ_tN, vJ_tL, vN_tI, vN_tJ, vN_tN, vN_tL, vL_tI, vL_tJ, vL_tN, vL_tL, vI_sP, vJ_sP, vN_sP, vL_sP, vP_sI, vP_sJ, vP_sN, vP_sL, vP_sP, vP_tI, vP_tJ, vP_tN, vP_tL, Nat.reduceEqDiff, false_and, true_and, if_false, if_true, and_self, and_true, reduceIte, Nat.succ_ne_self, Nat.reduceEqDiff, Nat.reduceDiv, Nat.reduceMul, Nat.reduceAdd, false_and, and_false, true_and, and_true, and_self, if_false, if_true, reduceIte, reduceCtorEq, ne_eq, not_false_eq_true] <;> (first | (split <;> rfl) | rfl | congr)

theorem wx_LIM {T σ : z_St} {A : w_A} (h : w_X T σ A) (i : Nat) (x : Nat) : w_X T (wI σ 9 4 i (Int32.ofNat x)) (sN A 7 i x) := by
  obtain ⟨hT, hA, hB, hC, hD, hE, hF, hG, hH, hI, hJ, hK, hL, hM, hN⟩ := h
  refine ⟨x_T_wI hT (z_isM_dec _ rfl), hA, hB, ?_, hD, hE, hF, hG, hH, hI, hJ, hK, hL, hM, hN⟩
  · unfold x_C at hC ⊢
    refine ⟨?_, ?_, ?_, ?_, ?_, ?_, ?_, ?_, ?_, ?_⟩ <;> (try intro j) <;> simp only [hC, gI_wI, gI_wJ, gI_wR, gJ_wI, gJ_wJ, gJ_wR, gR_wI, gR_wJ, gR_wR, vI_sI, vI_sJ, vI_sN, vI_sL, vJ_sI, vJ_sJ, vJ_sN, vJ_sL, vN_sI, vN_sJ, vN_sN, vN_sL, vL_sI, vL_sJ, vL_sN, vL_sL, vI_tI, vI_tJ, vI_tN, vI_tL, vJ_tI, vJ_tJ, vJ_tN, vJ_tL, vN_tI, vN_tJ, vN_tN, vN_tL, vL_tI, vL_tJ, vL_tN, vL_tL, vI_sP, vJ_sP, vN_sP, vL_sP, vP_sI, vP_sJ, vP_sN, vP_sL, vP_sP, vP_tI, vP_tJ, vP_tN, vP_tL, Nat.reduceEqDiff, false_and, true_and, if_false, if_true, and_self, and_true, reduceIte, Nat.succ_ne_self, Nat.reduceEqDiff, Nat.reduceDiv, Nat.reduceMul, Nat.reduceAdd, false_and, and_false, true_and, and_true, and_self, if_false, if_true, reduceIte, reduceCtorEq, ne_eq, not_false_eq_true] <;> (first | (split <;> rfl) | rfl | congr)

theorem wx_DUE {T σ : z_St} {A : w_A} (h : w_X T σ A) (i : Nat) (x : Nat) : w_X T (wI σ 9 12 i (Int32.ofNat x)) (sN A 8 i x) := by
  obtain ⟨hT, hA, hB, hC, hD, hE, hF, hG, hH, hI, hJ, hK, hL, hM, hN⟩ := h
  refine ⟨x_T_wI hT (z_isM_dec _ rfl), hA, hB, ?_, hD, hE, hF, hG, hH, hI, hJ, hK, hL, hM, hN⟩
  · unfold x_C at hC ⊢
    refine ⟨?_, ?_, ?_, ?_, ?_, ?_, ?_, ?_, ?_, ?_⟩ <;> (try intro j) <;> simp only [hC, gI_wI, gI_wJ, gI_wR, gJ_wI, gJ_wJ, gJ_wR, gR_wI, gR_wJ, gR_wR, vI_sI, vI_sJ, vI_sN, vI_sL, vJ_sI, vJ_sJ, vJ_sN, vJ_sL, vN_sI, vN_sJ, vN_sN, vN_sL, vL_sI, vL_sJ, vL_sN, vL_sL, vI_tI, vI_tJ, vI_tN, vI_tL, vJ_tI, vJ_tJ, vJ_tN, vJ_tL, vN_tI, vN_tJ, vN_tN, vN_tL, vL_tI, vL_tJ, vL_tN, vL_tL, vI_sP, vJ_sP, vN_sP, vL_sP, vP_sI, vP_sJ, vP_sN, vP_sL, vP_sP, vP_tI, vP_tJ, vP_tN, vP_tL, Nat.reduceEqDiff, false_and, true_and, if_false, if_true, and_self, and_true, reduceIte, Nat.succ_ne_self, Nat.reduceEqDiff, Nat.reduceDiv, Nat.reduceMul, Nat.reduceAdd, false_and, and_false, true_and, and_true, and_self, if_false, if_true, reduceIte, reduceCtorEq, ne_eq, not_false_eq_true] <;> (first | (split <;> rfl) | rfl | congr)

theorem wx_INL {T σ : z_St} {A : w_A} (h : w_X T σ A) (i : Nat) (x : Nat) : w_X T (wI σ 4 5 i (Int32.ofNat x)) (sN A 14 i x) := by
  obtain ⟨hT, hA, hB, hC, hD, hE, hF, hG, hH, hI, hJ, hK, hL, hM, hN⟩ := h
  refine ⟨x_T_wI hT (z_isM_dec _ rfl), hA, hB, ?_, hD, hE, hF, hG, hH, hI, hJ, hK, hL, hM, hN⟩
  · unfold x_C at hC ⊢
    refine ⟨?_, ?_, ?_, ?_, ?_, ?_, ?_, ?_, ?_, ?_⟩ <;> (try intro j) <;> simp only [hC, gI_wI, gI_wJ, gI_wR, gJ_wI, gJ_wJ, gJ_wR, gR_wI, gR_wJ, gR_wR, vI_sI, vI_sJ, vI_sN, vI_sL, vJ_sI, vJ_sJ, vJ_sN, vJ_sL, vN_sI, vN_sJ, vN_sN, vN_sL, vL_sI, vL_sJ, vL_sN, vL_sL, vI_tI, vI_tJ, vI_tN, vI_tL, vJ_tI, vJ_tJ, vJ_tN, vJ_tL, vN_tI, vN_tJ, vN_tN, vN_tL, vL_tI, vL_tJ, vL_tN, vL_tL, vI_sP, vJ_sP, vN_sP, vL_sP, vP_sI, vP_sJ, vP_sN, vP_sL, vP_sP, vP_tI, vP_tJ, vP_tN, vP_tL, Nat.reduceEqDiff, false_and, true_and, if_false, if_true, and_self, and_true, reduceIte, Nat.succ_ne_self, Nat.reduceEqDiff, Nat.reduceDiv, Nat.reduceMul, Nat.reduceAdd, false_and, and_false, true_and, and_true, and_self, if_false, if_true, reduceIte, reduceCtorEq, ne_eq, not_false_eq_true] <;> (first | (split <;> rfl) | rfl | congr)

theorem wx_ANUM {T σ : z_St} {A : w_A} (h : w_X T σ A) (i : Nat) (x : Int64) : w_X T (wJ σ 10 0 i x) (sJ A 0 i x) := by
  obtain ⟨hT, hA, hB, hC, hD, hE, hF, hG, hH, hI, hJ, hK, hL, hM, hN⟩ := h
  refine ⟨x_T_wJ hT (z_isM_dec _ rfl), hA, hB, hC, ?_, hE, hF, hG, hH, hI, hJ, hK, hL, hM, hN⟩
  · unfold x_D at hD ⊢
    refine ⟨?_, ?_, ?_, ?_, ?_⟩ <;> (try intro j) <;> simp only [hD, gI_wI, gI_wJ, gI_wR, gJ_wI, gJ_wJ, gJ_wR, gR_wI, gR_wJ, gR_wR, vI_sI, vI_sJ, vI_sN, vI_sL, vJ_sI, vJ_sJ, vJ_sN, vJ_sL, vN_sI, vN_sJ, vN_sN, vN_sL, vL_sI, vL_sJ, vL_sN, vL_sL, vI_tI, vI_tJ, vI_tN, vI_tL, vJ_tI, vJ_tJ, vJ_tN, vJ_tL, vN_tI, vN_tJ, vN_tN, vN_tL, vL_tI, vL_tJ, vL_tN, vL_tL, vI_sP, vJ_sP, vN_sP, vL_sP, vP_sI, vP_sJ, vP_sN, vP_sL, vP_sP, vP_tI, vP_tJ, vP_tN, vP_tL, Nat.reduceEqDiff, false_and, true_and, if_false, if_true, and_self, and_true, reduceIte, Nat.succ_ne_self, Nat.reduceEqDiff, Nat.reduceDiv, Nat.reduceMul, Nat.reduceAdd, false_and, and_false, true_and, and_true, and_self, if_false, if_true, reduceIte, reduceCtorEq, ne_eq, not_false_eq_true] <;> (first | (split <;> rfl) | rfl | congr)

theorem wx_ABAL {T σ : z_St} {A : w_A} (h : w_X T σ A) (i : Nat) (x : Int64) : w_X T (wJ σ 10 1 i x) (sJ A 1 i x) := by
  obtain ⟨hT, hA, hB, hC, hD, hE, hF, hG, hH, hI, hJ, hK, hL, hM, hN⟩ := h
  refine ⟨x_T_wJ hT (z_isM_dec _ rfl), hA, hB, hC, ?_, hE, hF, hG, hH, hI, hJ, hK, hL, hM, hN⟩
  · unfold x_D at hD ⊢
    refine ⟨?_, ?_, ?_, ?_, ?_⟩ <;> (try intro j) <;> simp only [hD, gI_wI, gI_wJ, gI_wR, gJ_wI, gJ_wJ, gJ_wR, gR_wI, gR_wJ, gR_wR, vI_sI, vI_sJ, vI_sN, vI_sL, vJ_sI, vJ_sJ, vJ_sN, vJ_sL, vN_sI, vN_sJ, vN_sN, vN_sL, vL_sI, vL_sJ, vL_sN, vL_sL, vI_tI, vI_tJ, vI_tN, vI_tL, vJ_tI, vJ_tJ, vJ_tN, vJ_tL, vN_tI, vN_tJ, vN_tN, vN_tL, vL_tI, vL_tJ, vL_tN, vL_tL, vI_sP, vJ_sP, vN_sP, vL_sP, vP_sI, vP_sJ, vP_sN, vP_sL, vP_sP, vP_tI, vP_tJ, vP_tN, vP_tL, Nat.reduceEqDiff, false_and, true_and, if_false, if_true, and_self, and_true, reduceIte, Nat.succ_ne_self, Nat.reduceEqDiff, Nat.reduceDiv, Nat.reduceMul, Nat.reduceAdd, false_and, and_false, true_and, and_true, and_self, if_false, if_true, reduceIte, reduceCtorEq, ne_eq, not_false_eq_true] <;> (first | (split <;> rfl) | rfl | congr)

theorem wx_ARES {T σ : z_St} {A : w_A} (h : w_X T σ A) (i : Nat) (x : Int64) : w_X T (wJ σ 10 2 i x) (sJ A 2 i x) := by
  obtain ⟨hT, hA, hB, hC, hD, hE, hF, hG, hH, hI, hJ, hK, hL, hM, hN⟩ := h
  refine ⟨x_T_wJ hT (z_isM_dec _ rfl), hA, hB, hC, ?_, hE, hF, hG, hH, hI, hJ, hK, hL, hM, hN⟩
  · unfold x_D at hD ⊢
    refine ⟨?_, ?_, ?_, ?_, ?_⟩ <;> (try intro j) <;> simp only [hD, gI_wI, gI_wJ, gI_wR, gJ_wI, gJ_wJ, gJ_wR, gR_wI, gR_wJ, gR_wR, vI_sI, vI_sJ, vI_sN, vI_sL, vJ_sI, vJ_sJ, vJ_sN, vJ_sL, vN_sI, vN_sJ, vN_sN, vN_sL, vL_sI, vL_sJ, vL_sN, vL_sL, vI_tI, vI_tJ, vI_tN, vI_tL, vJ_tI, vJ_tJ, vJ_tN, vJ_tL, vN_tI, vN_tJ, vN_tN, vN_tL, vL_tI, vL_tJ, vL_tN, vL_tL, vI_sP, vJ_sP, vN_sP, vL_sP, vP_sI, vP_sJ, vP_sN, vP_sL, vP_sP, vP_tI, vP_tJ, vP_tN, vP_tL, Nat.reduceEqDiff, false_and, true_and, if_false, if_true, and_self, and_true, reduceIte, Nat.succ_ne_self, Nat.reduceEqDiff, Nat.reduceDiv, Nat.reduceMul, Nat.reduceAdd, false_and, and_false, true_and, and_true, and_self, if_false, if_true, reduceIte, reduceCtorEq, ne_eq, not_false_eq_true] <;> (first | (split <;> rfl) | rfl | congr)

theorem wx_ACHG {T σ : z_St} {A : w_A} (h : w_X T σ A) (i : Nat) (x : Int64) : w_X T (wJ σ 10 3 i x) (sJ A 3 i x) := by
  obtain ⟨hT, hA, hB, hC, hD, hE, hF, hG, hH, hI, hJ, hK, hL, hM, hN⟩ := h
  refine ⟨x_T_wJ hT (z_isM_dec _ rfl), hA, hB, hC, ?_, hE, hF, hG, hH, hI, hJ, hK, hL, hM, hN⟩
  · unfold x_D at hD ⊢
    refine ⟨?_, ?_, ?_, ?_, ?_⟩ <;> (try intro j) <;> simp only [hD, gI_wI, gI_wJ, gI_wR, gJ_wI, gJ_wJ, gJ_wR, gR_wI, gR_wJ, gR_wR, vI_sI, vI_sJ, vI_sN, vI_sL, vJ_sI, vJ_sJ, vJ_sN, vJ_sL, vN_sI, vN_sJ, vN_sN, vN_sL, vL_sI, vL_sJ, vL_sN, vL_sL, vI_tI, vI_tJ, vI_tN, vI_tL, vJ_tI, vJ_tJ, vJ_tN, vJ_tL, vN_tI, vN_tJ, vN_tN, vN_tL, vL_tI, vL_tJ, vL_tN, vL_tL, vI_sP, vJ_sP, vN_sP, vL_sP, vP_sI, vP_sJ, vP_sN, vP_sL, vP_sP, vP_tI, vP_tJ, vP_tN, vP_tL, Nat.reduceEqDiff, false_and, true_and, if_false, if_true, and_self, and_true, reduceIte, Nat.succ_ne_self, Nat.reduceEqDiff, Nat.reduceDiv, Nat.reduceMul, Nat.reduceAdd, false_and, and_false, true_and, and_true, and_self, if_false, if_true, reduceIte, reduceCtorEq, ne_eq, not_false_eq_true] <;> (first | (split <;> rfl) | rfl | congr)

theorem wx_QRES {T σ : z_St} {A : w_A} (h : w_X T σ A) (i : Nat) (x : Int64) : w_X T (wJ σ 6 3 i x) (sJ A 4 i x) := by
  obtain ⟨hT, hA, hB, hC, hD, hE, hF, hG, hH, hI, hJ, hK, hL, hM, hN⟩ := h
  refine ⟨x_T_wJ hT (z_isM_dec _ rfl), hA, hB, hC, ?_, hE, hF, hG, hH, hI, hJ, hK, hL, hM, hN⟩
  · unfold x_D at hD ⊢
    refine ⟨?_, ?_, ?_, ?_, ?_⟩ <;> (try intro j) <;> simp only [hD, gI_wI, gI_wJ, gI_wR, gJ_wI, gJ_wJ, gJ_wR, gR_wI, gR_wJ, gR_wR, vI_sI, vI_sJ, vI_sN, vI_sL, vJ_sI, vJ_sJ, vJ_sN, vJ_sL, vN_sI, vN_sJ, vN_sN, vN_sL, vL_sI, vL_sJ, vL_sN, vL_sL, vI_tI, vI_tJ, vI_tN, vI_tL, vJ_tI, vJ_tJ, vJ_tN, vJ_tL, vN_tI, vN_tJ, vN_tN, vN_tL, vL_tI, vL_tJ, vL_tN, vL_tL, vI_sP, vJ_sP, vN_sP, vL_sP, vP_sI, vP_sJ, vP_sN, vP_sL, vP_sP, vP_tI, vP_tJ, vP_tN, vP_tL, Nat.reduceEqDiff, false_and, true_and, if_false, if_true, and_self, and_true, reduceIte, Nat.succ_ne_self, Nat.reduceEqDiff, Nat.reduceDiv, Nat.reduceMul, Nat.reduceAdd, false_and, and_false, true_and, and_true, and_self, if_false, if_true, reduceIte, reduceCtorEq, ne_eq, not_false_eq_true] <;> (first | (split <;> rfl) | rfl | congr)

theorem wx_OWN {T σ : z_St} {A : w_A} (h : w_X T σ A) (i : Nat) (x : Nat) : w_X T (wR σ 9 5 i (z_one 4 x)) (sN A 9 i x) := by
  obtain ⟨hT, hA, hB, hC, hD, hE, hF, hG, hH, hI, hJ, hK, hL, hM, hN⟩ := h
  refine ⟨x_T_wR hT (z_isM_dec _ rfl), hA, hB, hC, hD, ?_, hF, hG, hH, hI, hJ, hK, hL, hM, hN⟩
  · unfold x_E at hE ⊢
    refine ⟨?_, ?_, ?_, ?_, ?_⟩ <;> (try intro j) <;> simp only [hE, gI_wI, gI_wJ, gI_wR, gJ_wI, gJ_wJ, gJ_wR, gR_wI, gR_wJ, gR_wR, vI_sI, vI_sJ, vI_sN, vI_sL, vJ_sI, vJ_sJ, vJ_sN, vJ_sL, vN_sI, vN_sJ, vN_sN, vN_sL, vL_sI, vL_sJ, vL_sN, vL_sL, vI_tI, vI_tJ, vI_tN, vI_tL, vJ_tI, vJ_tJ, vJ_tN, vJ_tL, vN_tI, vN_tJ, vN_tN, vN_tL, vL_tI, vL_tJ, vL_tN, vL_tL, vI_sP, vJ_sP, vN_sP, vL_sP, vP_sI, vP_sJ, vP_sN, vP_sL, vP_sP, vP_tI, vP_tJ, vP_tN, vP_tL, Nat.reduceEqDiff, false_and, true_and, if_false, if_true, and_self, and_true, reduceIte, Nat.succ_ne_self, Nat.reduceEqDiff, Nat.reduceDiv, Nat.reduceMul, Nat.reduceAdd, false_and, and_false, true_and, and_true, and_self, if_false, if_true, reduceIte, reduceCtorEq, ne_eq, not_false_eq_true] <;> (first | (split <;> rfl) | rfl | congr)

theorem wx_CAME {T σ : z_St} {A : w_A} (h : w_X T σ A) (i : Nat) (x : Nat) : w_X T (wR σ 9 6 i (z_one 4 x)) (sN A 10 i x) := by
  obtain ⟨hT, hA, hB, hC, hD, hE, hF, hG, hH, hI, hJ, hK, hL, hM, hN⟩ := h
  refine ⟨x_T_wR hT (z_isM_dec _ rfl), hA, hB, hC, hD, ?_, hF, hG, hH, hI, hJ, hK, hL, hM, hN⟩
  · unfold x_E at hE ⊢
    refine ⟨?_, ?_, ?_, ?_, ?_⟩ <;> (try intro j) <;> simp only [hE, gI_wI, gI_wJ, gI_wR, gJ_wI, gJ_wJ, gJ_wR, gR_wI, gR_wJ, gR_wR, vI_sI, vI_sJ, vI_sN, vI_sL, vJ_sI, vJ_sJ, vJ_sN, vJ_sL, vN_sI, vN_sJ, vN_sN, vN_sL, vL_sI, vL_sJ, vL_sN, vL_sL, vI_tI, vI_tJ, vI_tN, vI_tL, vJ_tI, vJ_tJ, vJ_tN, vJ_tL, vN_tI, vN_tJ, vN_tN, vN_tL, vL_tI, vL_tJ, vL_tN, vL_tL, vI_sP, vJ_sP, vN_sP, vL_sP, vP_sI, vP_sJ, vP_sN, vP_sL, vP_sP, vP_tI, vP_tJ, vP_tN, vP_tL, Nat.reduceEqDiff, false_and, true_and, if_false, if_true, and_self, and_true, reduceIte, Nat.succ_ne_self, Nat.reduceEqDiff, Nat.reduceDiv, Nat.reduceMul, Nat.reduceAdd, false_and, and_false, true_and, and_true, and_self, if_false, if_true, reduceIte, reduceCtorEq, ne_eq, not_false_eq_true] <;> (first | (split <;> rfl) | rfl | congr)

theorem wx_CPEER {T σ : z_St} {A : w_A} (h : w_X T σ A) (i : Nat) (x : Nat) : w_X T (wR σ 4 2 i (z_per x)) (sN A 11 i x) := by
  obtain ⟨hT, hA, hB, hC, hD, hE, hF, hG, hH, hI, hJ, hK, hL, hM, hN⟩ := h
  refine ⟨x_T_wR hT (z_isM_dec _ rfl), hA, hB, hC, hD, ?_, hF, hG, hH, hI, hJ, hK, hL, hM, hN⟩
  · unfold x_E at hE ⊢
    refine ⟨?_, ?_, ?_, ?_, ?_⟩ <;> (try intro j) <;> simp only [hE, gI_wI, gI_wJ, gI_wR, gJ_wI, gJ_wJ, gJ_wR, gR_wI, gR_wJ, gR_wR, vI_sI, vI_sJ, vI_sN, vI_sL, vJ_sI, vJ_sJ, vJ_sN, vJ_sL, vN_sI, vN_sJ, vN_sN, vN_sL, vL_sI, vL_sJ, vL_sN, vL_sL, vI_tI, vI_tJ, vI_tN, vI_tL, vJ_tI, vJ_tJ, vJ_tN, vJ_tL, vN_tI, vN_tJ, vN_tN, vN_tL, vL_tI, vL_tJ, vL_tN, vL_tL, vI_sP, vJ_sP, vN_sP, vL_sP, vP_sI, vP_sJ, vP_sN, vP_sL, vP_sP, vP_tI, vP_tJ, vP_tN, vP_tL, Nat.reduceEqDiff, false_and, true_and, if_false, if_true, and_self, and_true, reduceIte, Nat.succ_ne_self, Nat.reduceEqDiff, Nat.reduceDiv, Nat.reduceMul, Nat.reduceAdd, false_and, and_false, true_and, and_true, and_self, if_false, if_true, reduceIte, reduceCtorEq, ne_eq, not_false_eq_true] <;> (first | (split <;> rfl) | rfl | congr)

theorem wx_QPEER {T σ : z_St} {A : w_A} (h : w_X T σ A) (i : Nat) (x : Nat) : w_X T (wR σ 6 4 i (z_per x)) (sN A 12 i x) := by
  obtain ⟨hT, hA, hB, hC, hD, hE, hF, hG, hH, hI, hJ, hK, hL, hM, hN⟩ := h
  refine ⟨x_T_wR hT (z_isM_dec _ rfl), hA, hB, hC, hD, ?_, hF, hG, hH, hI, hJ, hK, hL, hM, hN⟩
  · unfold x_E at hE ⊢
    refine ⟨?_, ?_, ?_, ?_, ?_⟩ <;> (try intro j) <;> simp only [hE, gI_wI, gI_wJ, gI_wR, gJ_wI, gJ_wJ, gJ_wR, gR_wI, gR_wJ, gR_wR, vI_sI, vI_sJ, vI_sN, vI_sL, vJ_sI, vJ_sJ, vJ_sN, vJ_sL, vN_sI, vN_sJ, vN_sN, vN_sL, vL_sI, vL_sJ, vL_sN, vL_sL, vI_tI, vI_tJ, vI_tN, vI_tL, vJ_tI, vJ_tJ, vJ_tN, vJ_tL, vN_tI, vN_tJ, vN_tN, vN_tL, vL_tI, vL_tJ, vL_tN, vL_tL, vI_sP, vJ_sP, vN_sP, vL_sP, vP_sI, vP_sJ, vP_sN, vP_sL, vP_sP, vP_tI, vP_tJ, vP_tN, vP_tL, Nat.reduceEqDiff, false_and, true_and, if_false, if_true, and_self, and_true, reduceIte, Nat.succ_ne_self, Nat.reduceEqDiff, Nat.reduceDiv, Nat.reduceMul, Nat.reduceAdd, false_and, and_false, true_and, and_true, and_self, if_false, if_true, reduceIte, reduceCtorEq, ne_eq, not_false_eq_true] <;> (first | (split <;> rfl) | rfl | congr)

theorem wx_CROLE {T σ : z_St} {A : w_A} (h : w_X T σ A) (i : Nat) (x : Int32) : w_X T (wI σ 4 3 i (b2i (x = 1))) (sI A 13 i x) := by
  obtain ⟨hT, hA, hB, hC, hD, hE, hF, hG, hH, hI, hJ, hK, hL, hM, hN⟩ := h
  refine ⟨x_T_wI hT (z_isM_dec _ rfl), hA, hB, hC, hD, ?_, hF, hG, hH, hI, hJ, hK, hL, hM, hN⟩
  · unfold x_E at hE ⊢
    refine ⟨?_, ?_, ?_, ?_, ?_⟩ <;> (try intro j) <;> simp only [hE, gI_wI, gI_wJ, gI_wR, gJ_wI, gJ_wJ, gJ_wR, gR_wI, gR_wJ, gR_wR, vI_sI, vI_sJ, vI_sN, vI_sL, vJ_sI, vJ_sJ, vJ_sN, vJ_sL, vN_sI, vN_sJ, vN_sN, vN_sL, vL_sI, vL_sJ, vL_sN, vL_sL, vI_tI, vI_tJ, vI_tN, vI_tL, vJ_tI, vJ_tJ, vJ_tN, vJ_tL, vN_tI, vN_tJ, vN_tN, vN_tL, vL_tI, vL_tJ, vL_tN, vL_tL, vI_sP, vJ_sP, vN_sP, vL_sP, vP_sI, vP_sJ, vP_sN, vP_sL, vP_sP, vP_tI, vP_tJ, vP_tN, vP_tL, Nat.reduceEqDiff, false_and, true_and, if_false, if_true, and_self, and_true, reduceIte, Nat.succ_ne_self, Nat.reduceEqDiff, Nat.reduceDiv, Nat.reduceMul, Nat.reduceAdd, false_and, and_false, true_and, and_true, and_self, if_false, if_true, reduceIte, reduceCtorEq, ne_eq, not_false_eq_true] <;> (first | (split <;> rfl) | rfl | congr)

