/-! PART 33 (printed by wip/gen/gen32.py): the twin's memory and the plain system's state -/
set_option maxRecDepth 10000
def m_row (σ : z_St) (a b : Nat) (l : List Int32) : Prop := ∀ k, (h : k < l.length) → gI σ a 0 (b + k) = l[k]
def m_nm (σ : z_St) (a b : Nat) (l : List Int32) : Prop := gI σ a 0 b = Int32.ofNat l.length ∧ m_row σ a (b + 1) l
def z_keys : List Int32 := [263, 264, 296, 258, 273, 416, 415, 268, 436, 443, 437, 446]
def m_A (σ : z_St) : Prop := gR σ 8 3 0 = some (7341329, 0)
  ∧ gR σ 8 5 0 = some (8389905, 0)
  ∧ gR σ 8 8 0 = some (9442321, 0)
  ∧ gR σ 8 9 0 = some (10485904, 0)
  ∧ gR σ 8 10 0 = some (11534482, 0)
  ∧ gR σ 8 11 0 = some (12583056, 0)
  ∧ gR σ 8 12 0 = some (13631632, 0)
  ∧ gR σ 8 13 0 = some (14680208, 0)
  ∧ gR σ 8 14 0 = some (15728784, 0)
  ∧ gR σ 8 15 0 = some (16777360, 0)
  ∧ gR σ 8 16 0 = some (17825938, 0)
  ∧ gR σ 8 17 0 = some (18874512, 0)
  ∧ gR σ 8 18 0 = some (19923088, 0)
  ∧ gR σ 8 19 0 = some (20971664, 0)
  ∧ gR σ 8 20 0 = some (22020240, 0)
  ∧ gR σ 8 21 0 = some (23068816, 0)
  ∧ gR σ 8 22 0 = some (24117392, 0)
  ∧ gR σ 8 23 0 = some (25165968, 0)
  ∧ gR σ 8 24 0 = some (26214544, 0)
  ∧ gR σ 8 25 0 = some (27263120, 0)
  ∧ gR σ 8 26 0 = some (28311856, 0)
  ∧ gR σ 8 27 0 = some (29360432, 0)
  ∧ gR σ 8 28 0 = some (30409008, 0)
  ∧ gR σ 8 29 0 = some (31630097, 0)
  ∧ gR σ 8 30 0 = some (32506160, 0)
  ∧ gR σ 8 31 0 = some (34130449, 0)
  ∧ gR σ 8 32 0 = some (34603312, 0)
  ∧ gR σ 8 33 0 = some (35651888, 0)
  ∧ gR σ 8 36 0 = some (36700691, 0)
  ∧ gR σ 8 37 0 = some (37749267, 0)
  ∧ gR σ 8 38 0 = some (38797843, 0)
  ∧ gR σ 8 39 0 = some (39846419, 0)
  ∧ gR σ 8 41 0 = some (40915473, 0)
  ∧ gR σ 8 42 0 = some (41964049, 0)
  ∧ gR σ 8 43 0 = some (43012625, 0)
  ∧ gR σ 8 44 0 = some (44040720, 0)
  ∧ gR σ 8 45 0 = some (45089299, 0)
  ∧ gR σ 8 46 0 = some (46137875, 0)
  ∧ gR σ 8 47 0 = some (47186448, 0)
  ∧ gR σ 8 48 0 = some (48235024, 0)
  ∧ gR σ 8 50 0 = some (49367057, 0)
  ∧ gR σ 8 51 0 = some (50415633, 0)
  ∧ gR σ 8 52 0 = some (51464209, 0)
  ∧ gR σ 8 53 0 = some (52430867, 0)
  ∧ gR σ 8 54 0 = some (53479440, 0)
  ∧ gR σ 8 55 0 = some (54528016, 0)
  ∧ gR σ 8 56 0 = some (55576592, 0)
  ∧ gR σ 8 57 0 = some (56625168, 0)
  ∧ gR σ 8 58 0 = some (57673744, 0)
  ∧ gR σ 8 60 0 = some (59058193, 0)
  ∧ gR σ 8 61 0 = some (59769904, 0)
  ∧ gR σ 8 62 0 = some (60860721, 0)
  ∧ gR σ 8 63 0 = some (61867056, 0)
  ∧ gR σ 8 64 0 = some (62915632, 0)
  ∧ gR σ 8 65 0 = some (63985553, 0)
  ∧ gR σ 8 76 0 = some (65012112, 0)
  ∧ gR σ 8 77 0 = some (66060688, 0)
  ∧ gR σ 8 78 0 = some (67109264, 0)
  ∧ gR σ 8 79 0 = some (68157840, 0)
  ∧ gR σ 8 85 0 = some (69206192, 0)
  ∧ gR σ 8 86 0 = some (70254768, 0)
  ∧ gR σ 8 87 0 = some (71303344, 0)
  ∧ (∀ k, k < 12 → gI σ 65012112 0 k = z_keys.getD k 0)
def m_B (σ : z_St) (A : w_A) : Prop := (∀ i : Nat, gI σ 12583056 0 i = vI A 0 i)
  ∧ (∀ i : Nat, gI σ 16777360 0 i = vI A 1 i)
  ∧ (∀ i : Nat, gI σ 17825938 0 i = vI A 2 i)
  ∧ (∀ i : Nat, gI σ 19923088 0 i = vI A 3 i)
  ∧ (∀ i : Nat, gI σ 20971664 0 i = vI A 4 i)
  ∧ (∀ i : Nat, gI σ 22020240 0 i = vI A 5 i)
  ∧ (∀ i : Nat, gI σ 23068816 0 i = vI A 6 i)
  ∧ (∀ i : Nat, gI σ 24117392 0 i = vI A 7 i)
  ∧ (∀ i : Nat, gI σ 25165968 0 i = vI A 8 i)
  ∧ (∀ i : Nat, gI σ 26214544 0 i = vI A 9 i)
  ∧ (∀ i : Nat, gI σ 27263120 0 i = vI A 10 i)
  ∧ (∀ i : Nat, gI σ 11534482 0 i = vI A 11 i)
  ∧ (∀ i : Nat, gI σ 28311856 0 i = vI A 12 i)
  ∧ (∀ i : Nat, gI σ 30409008 0 i = vI A 13 i)
  ∧ (gI σ 8 2 0 = vI A 14 0)
  ∧ (∀ i : Nat, gI σ 54528016 0 i = vI A 15 i)
  ∧ (∀ i : Nat, gI σ 55576592 0 i = vI A 16 i)
  ∧ (∀ i : Nat, gI σ 56625168 0 i = vI A 17 i)
  ∧ (gI σ 8 91 0 = vI A 19 0)
def m_C (σ : z_St) (A : w_A) : Prop := (gI σ 8 7 0 = Int32.ofNat (vN A 0 0))
  ∧ (gI σ 8 35 0 = Int32.ofNat (vN A 1 0))
  ∧ (gI σ 8 40 0 = Int32.ofNat (vN A 2 0))
  ∧ (gI σ 8 49 0 = Int32.ofNat (vN A 3 0))
  ∧ (gI σ 8 59 0 = Int32.ofNat (vN A 4 0))
  ∧ (gI σ 8 1 0 = Int32.ofNat (vN A 5 0))
  ∧ (gI σ 8 34 0 = Int32.ofNat (vN A 6 0 + 1))
  ∧ (∀ i : Nat, gI σ 13631632 0 i = Int32.ofNat (vN A 7 i))
  ∧ (∀ i : Nat, gI σ 18874512 0 i = Int32.ofNat (vN A 8 i))
  ∧ (∀ i : Nat, gI σ 14680208 0 i = Int32.ofNat (vN A 9 i))
  ∧ (∀ i : Nat, gI σ 15728784 0 i = Int32.ofNat (vN A 10 i))
  ∧ (∀ i : Nat, gI σ 29360432 0 i = Int32.ofNat (vN A 11 i))
  ∧ (∀ i : Nat, gI σ 53479440 0 i = Int32.ofNat (vN A 12 i - 1))
  ∧ (∀ i : Nat, gI σ 32506160 0 i = Int32.ofNat (vN A 14 i))
  ∧ (∀ i : Nat, gI σ 57673744 0 i = Int32.ofNat (vN A 19 i))
def m_D (σ : z_St) (A : w_A) : Prop := (∀ i : Nat, gJ σ 36700691 0 i = vJ A 0 i)
  ∧ (∀ i : Nat, gJ σ 37749267 0 i = vJ A 1 i)
  ∧ (∀ i : Nat, gJ σ 38797843 0 i = vJ A 2 i)
  ∧ (∀ i : Nat, gJ σ 39846419 0 i = vJ A 3 i)
  ∧ (∀ i : Nat, gJ σ 52430867 0 i = vJ A 4 i)
def m_G (σ : z_St) (A : w_A) : Prop := gI σ 8 4 0 = Int32.ofNat (vL A 0 0).length
  ∧ m_row σ 7341329 0 (vL A 0 0)
  ∧ gI σ 8 6 0 = Int32.ofNat (vL A 1 0).length
  ∧ m_row σ 8389905 0 (vL A 1 0)
  ∧ (∀ i, i < 4 → gI σ 10485904 0 i = Int32.ofNat (vL A 2 i).length ∧ m_row σ 9442321 (40 * i) (vL A 2 i))
  ∧ (∀ i, i < 64 → m_nm σ 49367057 (41 * i) (vL A 7 i) ∧ m_nm σ 50415633 (41 * i) (vL A 8 i) ∧ m_nm σ 51464209 (41 * i) (vL A 9 i))
def m_H (σ : z_St) (A : w_A) : Prop := ∀ c, 1 ≤ c → c ≤ 8 → (vL A 3 c).length ≤ 2000 ∧ gI σ 34603312 0 c = Int32.ofNat (vL A 3 c).length ∧ ∃ f, f < 2000 ∧ gI σ 35651888 0 c = Int32.ofNat f ∧ ∀ k, (h : k < (vL A 3 c).length) → gI σ 34130449 0 (2000 * c + (f + k) % 2000) = (vL A 3 c)[k]
def m_I (σ : z_St) (A : w_A) : Prop := ∀ k, k < 5400 → gI σ 31630097 0 k = vI A 64 k
def m_J (σ : z_St) (A : w_A) : Prop := (∀ s, s < 16 → (∃ n, n ≤ 40 ∧ gI σ 40915473 0 (41 * s) = Int32.ofNat n) ∧ (∃ n, n ≤ 40 ∧ gI σ 41964049 0 (41 * s) = Int32.ofNat n) ∧ (∃ n, n ≤ 40 ∧ gI σ 43012625 0 (41 * s) = Int32.ofNat n))
  ∧ (∀ s, s < vN A 2 0 → gJ σ 45089299 0 s = vJ A 5 s ∧ gJ σ 46137875 0 s = vJ A 6 s ∧ gI σ 47186448 0 s = vI A 20 s ∧ gI σ 48235024 0 s = vI A 21 s ∧ gI σ 44040720 0 s = Int32.ofNat (vN A 13 s - 1) ∧ m_nm σ 40915473 (41 * s) (vL A 4 s) ∧ m_nm σ 41964049 (41 * s) (vL A 5 s) ∧ m_nm σ 43012625 (41 * s) (vL A 6 s))
def m_K (σ : z_St) (A : w_A) : Prop := (∀ s, s < vN A 4 0 → gI σ 61867056 0 s = vI A 18 s ∧ gI σ 62915632 0 s = Int32.ofNat (vN A 15 s + 240) ∧ m_nm σ 60860721 (41 * s) (vL A 11 s) ∧ gI σ 59769904 0 s = Int32.ofNat (vL A 10 s).length ∧ ∀ j, (h : j < (vL A 10 s).length) → ¬ (1 ≤ j ∧ j ≤ 3) → gI σ 59058193 0 (320 * s + j) = (vL A 10 s)[j])
def m_L (σ : z_St) (A : w_A) : Prop := gI σ 8 66 0 = Int32.ofNat (vL A 12 0).length
  ∧ (∀ k, (h : k < (vL A 12 0).length) → ¬ (1 ≤ k ∧ k ≤ 3) → gI σ 63985553 0 k = (vL A 12 0)[k])
def m_in (x : Int32) (q : Option (Nat × Nat)) : Prop := x = Int32.ofNat (q.elim 0 (fun r => r.1))
def m_msg (σ : z_St) (A : w_A) (P : w_P) : Prop := gI σ 8 67 0 = Int32.ofNat (600 * pC P) ∧ gI σ 8 69 0 = pF P ∧ gI σ 8 70 0 = pM P ∧ gI σ 8 71 0 = pA_ P ∧ gI σ 8 72 0 = pH P ∧ gI σ 8 73 0 = pE P ∧ gI σ 8 74 0 = pW P ∧ (fn_req P → gI σ 8 75 0 = pX P) ∧ (∀ k, k < 12 → (pW P = 0 ∨ k < 9) → gI σ 68157840 0 k = Int32.ofNat (fn_many (pN P) (z_keys.getD k 0)) ∧ ∀ q, fn_find (pN P) (z_keys.getD k 0) = some q → gI σ 66060688 0 k = Int32.ofNat q.2.1 ∧ gI σ 67109264 0 k = Int32.ofNat q.2.2) ∧ (pW P = 0 → gI σ 8 80 0 = b2i (fn_speaks (vI A 64) P = true) ∧ m_in (gI σ 8 81 0) (fn_inside (vI A 64) P 443 444) ∧ (∀ q, fn_inside (vI A 64) P 443 444 = some q → gI σ 8 82 0 = Int32.ofNat q.2) ∧ m_in (gI σ 8 83 0) (fn_inside (vI A 64) P 437 421) ∧ m_in (gI σ 8 84 0) (fn_inside (vI A 64) P 446 421))
def m_M (σ : z_St) (A : w_A) : Prop := ∀ P, vP A = some P → m_msg σ A P
def m_N (σ : z_St) (A : w_A) : Prop := (vN A 16 0 = 0 → gI σ 8 89 0 = 0)
  ∧ (∀ s, s < 16 → vN A 16 0 = s + 1 → gI σ 8 89 0 = 1 ∧ gJ σ 8 90 0 = vJ A 5 s)
def m_T (T σ : z_St) : Prop := (∀ a, ¬ z_isM a → gI σ a = gI T a ∧ gJ σ a = gJ T a ∧ gR σ a = gR T a) ∧ cn σ = cn T ∧ al σ = al T
def w_M (T σ : z_St) (A : w_A) : Prop := m_T T σ ∧ m_A σ ∧ m_B σ A ∧ m_C σ A ∧ m_D σ A ∧ m_G σ A ∧ m_H σ A ∧ m_I σ A ∧ m_J σ A ∧ m_K σ A ∧ m_L σ A ∧ m_M σ A ∧ m_N σ A
theorem rm_p3 {T σ : z_St} {A : w_A} (h : w_M T σ A) : gR σ 8 3 0 = some (7341329, 0) := h.2.1.1
theorem rm_p5 {T σ : z_St} {A : w_A} (h : w_M T σ A) : gR σ 8 5 0 = some (8389905, 0) := h.2.1.2.1
theorem rm_p8 {T σ : z_St} {A : w_A} (h : w_M T σ A) : gR σ 8 8 0 = some (9442321, 0) := h.2.1.2.2.1
theorem rm_p9 {T σ : z_St} {A : w_A} (h : w_M T σ A) : gR σ 8 9 0 = some (10485904, 0) := h.2.1.2.2.2.1
theorem rm_p10 {T σ : z_St} {A : w_A} (h : w_M T σ A) : gR σ 8 10 0 = some (11534482, 0) := h.2.1.2.2.2.2.1
theorem rm_p11 {T σ : z_St} {A : w_A} (h : w_M T σ A) : gR σ 8 11 0 = some (12583056, 0) := h.2.1.2.2.2.2.2.1
theorem rm_p12 {T σ : z_St} {A : w_A} (h : w_M T σ A) : gR σ 8 12 0 = some (13631632, 0) := h.2.1.2.2.2.2.2.2.1
theorem rm_p13 {T σ : z_St} {A : w_A} (h : w_M T σ A) : gR σ 8 13 0 = some (14680208, 0) := h.2.1.2.2.2.2.2.2.2.1
theorem rm_p14 {T σ : z_St} {A : w_A} (h : w_M T σ A) : gR σ 8 14 0 = some (15728784, 0) := h.2.1.2.2.2.2.2.2.2.2.1
theorem rm_p15 {T σ : z_St} {A : w_A} (h : w_M T σ A) : gR σ 8 15 0 = some (16777360, 0) := h.2.1.2.2.2.2.2.2.2.2.2.1
theorem rm_p16 {T σ : z_St} {A : w_A} (h : w_M T σ A) : gR σ 8 16 0 = some (17825938, 0) := h.2.1.2.2.2.2.2.2.2.2.2.2.1
theorem rm_p17 {T σ : z_St} {A : w_A} (h : w_M T σ A) : gR σ 8 17 0 = some (18874512, 0) := h.2.1.2.2.2.2.2.2.2.2.2.2.2.1
theorem rm_p18 {T σ : z_St} {A : w_A} (h : w_M T σ A) : gR σ 8 18 0 = some (19923088, 0) := h.2.1.2.2.2.2.2.2.2.2.2.2.2.2.1
theorem rm_p19 {T σ : z_St} {A : w_A} (h : w_M T σ A) : gR σ 8 19 0 = some (20971664, 0) := h.2.1.2.2.2.2.2.2.2.2.2.2.2.2.2.1
theorem rm_p20 {T σ : z_St} {A : w_A} (h : w_M T σ A) : gR σ 8 20 0 = some (22020240, 0) := h.2.1.2.2.2.2.2.2.2.2.2.2.2.2.2.2.1
theorem rm_p21 {T σ : z_St} {A : w_A} (h : w_M T σ A) : gR σ 8 21 0 = some (23068816, 0) := h.2.1.2.2.2.2.2.2.2.2.2.2.2.2.2.2.2.1
theorem rm_p22 {T σ : z_St} {A : w_A} (h : w_M T σ A) : gR σ 8 22 0 = some (24117392, 0) := h.2.1.2.2.2.2.2.2.2.2.2.2.2.2.2.2.2.2.1
theorem rm_p23 {T σ : z_St} {A : w_A} (h : w_M T σ A) : gR σ 8 23 0 = some (25165968, 0) := h.2.1.2.2.2.2.2.2.2.2.2.2.2.2.2.2.2.2.2.1
theorem rm_p24 {T σ : z_St} {A : w_A} (h : w_M T σ A) : gR σ 8 24 0 = some (26214544, 0) := h.2.1.2.2.2.2.2.2.2.2.2.2.2.2.2.2.2.2.2.2.1
theorem rm_p25 {T σ : z_St} {A : w_A} (h : w_M T σ A) : gR σ 8 25 0 = some (27263120, 0) := h.2.1.2.2.2.2.2.2.2.2.2.2.2.2.2.2.2.2.2.2.2.1
theorem rm_p26 {T σ : z_St} {A : w_A} (h : w_M T σ A) : gR σ 8 26 0 = some (28311856, 0) := h.2.1.2.2.2.2.2.2.2.2.2.2.2.2.2.2.2.2.2.2.2.2.1
theorem rm_p27 {T σ : z_St} {A : w_A} (h : w_M T σ A) : gR σ 8 27 0 = some (29360432, 0) := h.2.1.2.2.2.2.2.2.2.2.2.2.2.2.2.2.2.2.2.2.2.2.2.1
theorem rm_p28 {T σ : z_St} {A : w_A} (h : w_M T σ A) : gR σ 8 28 0 = some (30409008, 0) := h.2.1.2.2.2.2.2.2.2.2.2.2.2.2.2.2.2.2.2.2.2.2.2.2.1
theorem rm_p29 {T σ : z_St} {A : w_A} (h : w_M T σ A) : gR σ 8 29 0 = some (31630097, 0) := h.2.1.2.2.2.2.2.2.2.2.2.2.2.2.2.2.2.2.2.2.2.2.2.2.2.1
theorem rm_p30 {T σ : z_St} {A : w_A} (h : w_M T σ A) : gR σ 8 30 0 = some (32506160, 0) := h.2.1.2.2.2.2.2.2.2.2.2.2.2.2.2.2.2.2.2.2.2.2.2.2.2.2.1
theorem rm_p31 {T σ : z_St} {A : w_A} (h : w_M T σ A) : gR σ 8 31 0 = some (34130449, 0) := h.2.1.2.2.2.2.2.2.2.2.2.2.2.2.2.2.2.2.2.2.2.2.2.2.2.2.2.1
theorem rm_p32 {T σ : z_St} {A : w_A} (h : w_M T σ A) : gR σ 8 32 0 = some (34603312, 0) := h.2.1.2.2.2.2.2.2.2.2.2.2.2.2.2.2.2.2.2.2.2.2.2.2.2.2.2.2.1
theorem rm_p33 {T σ : z_St} {A : w_A} (h : w_M T σ A) : gR σ 8 33 0 = some (35651888, 0) := h.2.1.2.2.2.2.2.2.2.2.2.2.2.2.2.2.2.2.2.2.2.2.2.2.2.2.2.2.2.1
theorem rm_p36 {T σ : z_St} {A : w_A} (h : w_M T σ A) : gR σ 8 36 0 = some (36700691, 0) := h.2.1.2.2.2.2.2.2.2.2.2.2.2.2.2.2.2.2.2.2.2.2.2.2.2.2.2.2.2.2.1
theorem rm_p37 {T σ : z_St} {A : w_A} (h : w_M T σ A) : gR σ 8 37 0 = some (37749267, 0) := h.2.1.2.2.2.2.2.2.2.2.2.2.2.2.2.2.2.2.2.2.2.2.2.2.2.2.2.2.2.2.2.1
theorem rm_p38 {T σ : z_St} {A : w_A} (h : w_M T σ A) : gR σ 8 38 0 = some (38797843, 0) := h.2.1.2.2.2.2.2.2.2.2.2.2.2.2.2.2.2.2.2.2.2.2.2.2.2.2.2.2.2.2.2.2.1
theorem rm_p39 {T σ : z_St} {A : w_A} (h : w_M T σ A) : gR σ 8 39 0 = some (39846419, 0) := h.2.1.2.2.2.2.2.2.2.2.2.2.2.2.2.2.2.2.2.2.2.2.2.2.2.2.2.2.2.2.2.2.2.1
theorem rm_p41 {T σ : z_St} {A : w_A} (h : w_M T σ A) : gR σ 8 41 0 = some (40915473, 0) := h.2.1.2.2.2.2.2.2.2.2.2.2.2.2.2.2.2.2.2.2.2.2.2.2.2.2.2.2.2.2.2.2.2.2.1
theorem rm_p42 {T σ : z_St} {A : w_A} (h : w_M T σ A) : gR σ 8 42 0 = some (41964049, 0) := h.2.1.2.2.2.2.2.2.2.2.2.2.2.2.2.2.2.2.2.2.2.2.2.2.2.2.2.2.2.2.2.2.2.2.2.1
theorem rm_p43 {T σ : z_St} {A : w_A} (h : w_M T σ A) : gR σ 8 43 0 = some (43012625, 0) := h.2.1.2.2.2.2.2.2.2.2.2.2.2.2.2.2.2.2.2.2.2.2.2.2.2.2.2.2.2.2.2.2.2.2.2.2.1
theorem rm_p44 {T σ : z_St} {A : w_A} (h : w_M T σ A) : gR σ 8 44 0 = some (44040720, 0) := h.2.1.2.2.2.2.2.2.2.2.2.2.2.2.2.2.2.2.2.2.2.2.2.2.2.2.2.2.2.2.2.2.2.2.2.2.2.1
theorem rm_p45 {T σ : z_St} {A : w_A} (h : w_M T σ A) : gR σ 8 45 0 = some (45089299, 0) := h.2.1.2.2.2.2.2.2.2.2.2.2.2.2.2.2.2.2.2.2.2.2.2.2.2.2.2.2.2.2.2.2.2.2.2.2.2.2.1
theorem rm_p46 {T σ : z_St} {A : w_A} (h : w_M T σ A) : gR σ 8 46 0 = some (46137875, 0) := h.2.1.2.2.2.2.2.2.2.2.2.2.2.2.2.2.2.2.2.2.2.2.2.2.2.2.2.2.2.2.2.2.2.2.2.2.2.2.2.1
theorem rm_p47 {T σ : z_St} {A : w_A} (h : w_M T σ A) : gR σ 8 47 0 = some (47186448, 0) := h.2.1.2.2.2.2.2.2.2.2.2.2.2.2.2.2.2.2.2.2.2.2.2.2.2.2.2.2.2.2.2.2.2.2.2.2.2.2.2.2.1
theorem rm_p48 {T σ : z_St} {A : w_A} (h : w_M T σ A) : gR σ 8 48 0 = some (48235024, 0) := h.2.1.2.2.2.2.2.2.2.2.2.2.2.2.2.2.2.2.2.2.2.2.2.2.2.2.2.2.2.2.2.2.2.2.2.2.2.2.2.2.2.1
theorem rm_p50 {T σ : z_St} {A : w_A} (h : w_M T σ A) : gR σ 8 50 0 = some (49367057, 0) := h.2.1.2.2.2.2.2.2.2.2.2.2.2.2.2.2.2.2.2.2.2.2.2.2.2.2.2.2.2.2.2.2.2.2.2.2.2.2.2.2.2.2.1
theorem rm_p51 {T σ : z_St} {A : w_A} (h : w_M T σ A) : gR σ 8 51 0 = some (50415633, 0) := h.2.1.2.2.2.2.2.2.2.2.2.2.2.2.2.2.2.2.2.2.2.2.2.2.2.2.2.2.2.2.2.2.2.2.2.2.2.2.2.2.2.2.2.1
theorem rm_p52 {T σ : z_St} {A : w_A} (h : w_M T σ A) : gR σ 8 52 0 = some (51464209, 0) := h.2.1.2.2.2.2.2.2.2.2.2.2.2.2.2.2.2.2.2.2.2.2.2.2.2.2.2.2.2.2.2.2.2.2.2.2.2.2.2.2.2.2.2.2.1
theorem rm_p53 {T σ : z_St} {A : w_A} (h : w_M T σ A) : gR σ 8 53 0 = some (52430867, 0) := h.2.1.2.2.2.2.2.2.2.2.2.2.2.2.2.2.2.2.2.2.2.2.2.2.2.2.2.2.2.2.2.2.2.2.2.2.2.2.2.2.2.2.2.2.2.1
theorem rm_p54 {T σ : z_St} {A : w_A} (h : w_M T σ A) : gR σ 8 54 0 = some (53479440, 0) := h.2.1.2.2.2.2.2.2.2.2.2.2.2.2.2.2.2.2.2.2.2.2.2.2.2.2.2.2.2.2.2.2.2.2.2.2.2.2.2.2.2.2.2.2.2.2.1
theorem rm_p55 {T σ : z_St} {A : w_A} (h : w_M T σ A) : gR σ 8 55 0 = some (54528016, 0) := h.2.1.2.2.2.2.2.2.2.2.2.2.2.2.2.2.2.2.2.2.2.2.2.2.2.2.2.2.2.2.2.2.2.2.2.2.2.2.2.2.2.2.2.2.2.2.2.1
theorem rm_p56 {T σ : z_St} {A : w_A} (h : w_M T σ A) : gR σ 8 56 0 = some (55576592, 0) := h.2.1.2.2.2.2.2.2.2.2.2.2.2.2.2.2.2.2.2.2.2.2.2.2.2.2.2.2.2.2.2.2.2.2.2.2.2.2.2.2.2.2.2.2.2.2.2.2.1
theorem rm_p57 {T σ : z_St} {A : w_A} (h : w_M T σ A) : gR σ 8 57 0 = some (56625168, 0) := h.2.1.2.2.2.2.2.2.2.2.2.2.2.2.2.2.2.2.2.2.2.2.2.2.2.2.2.2.2.2.2.2.2.2.2.2.2.2.2.2.2.2.2.2.2.2.2.2.2.1
theorem rm_p58 {T σ : z_St} {A : w_A} (h : w_M T σ A) : gR σ 8 58 0 = some (57673744, 0) := h.2.1.2.2.2.2.2.2.2.2.2.2.2.2.2.2.2.2.2.2.2.2.2.2.2.2.2.2.2.2.2.2.2.2.2.2.2.2.2.2.2.2.2.2.2.2.2.2.2.2.1
theorem rm_p60 {T σ : z_St} {A : w_A} (h : w_M T σ A) : gR σ 8 60 0 = some (59058193, 0) := h.2.1.2.2.2.2.2.2.2.2.2.2.2.2.2.2.2.2.2.2.2.2.2.2.2.2.2.2.2.2.2.2.2.2.2.2.2.2.2.2.2.2.2.2.2.2.2.2.2.2.2.1
theorem rm_p61 {T σ : z_St} {A : w_A} (h : w_M T σ A) : gR σ 8 61 0 = some (59769904, 0) := h.2.1.2.2.2.2.2.2.2.2.2.2.2.2.2.2.2.2.2.2.2.2.2.2.2.2.2.2.2.2.2.2.2.2.2.2.2.2.2.2.2.2.2.2.2.2.2.2.2.2.2.2.1
theorem rm_p62 {T σ : z_St} {A : w_A} (h : w_M T σ A) : gR σ 8 62 0 = some (60860721, 0) := h.2.1.2.2.2.2.2.2.2.2.2.2.2.2.2.2.2.2.2.2.2.2.2.2.2.2.2.2.2.2.2.2.2.2.2.2.2.2.2.2.2.2.2.2.2.2.2.2.2.2.2.2.2.1
theorem rm_p63 {T σ : z_St} {A : w_A} (h : w_M T σ A) : gR σ 8 63 0 = some (61867056, 0) := h.2.1.2.2.2.2.2.2.2.2.2.2.2.2.2.2.2.2.2.2.2.2.2.2.2.2.2.2.2.2.2.2.2.2.2.2.2.2.2.2.2.2.2.2.2.2.2.2.2.2.2.2.2.2.1
theorem rm_p64 {T σ : z_St} {A : w_A} (h : w_M T σ A) : gR σ 8 64 0 = some (62915632, 0) := h.2.1.2.2.2.2.2.2.2.2.2.2.2.2.2.2.2.2.2.2.2.2.2.2.2.2.2.2.2.2.2.2.2.2.2.2.2.2.2.2.2.2.2.2.2.2.2.2.2.2.2.2.2.2.2.1
theorem rm_p65 {T σ : z_St} {A : w_A} (h : w_M T σ A) : gR σ 8 65 0 = some (63985553, 0) := h.2.1.2.2.2.2.2.2.2.2.2.2.2.2.2.2.2.2.2.2.2.2.2.2.2.2.2.2.2.2.2.2.2.2.2.2.2.2.2.2.2.2.2.2.2.2.2.2.2.2.2.2.2.2.2.2.1
theorem rm_p76 {T σ : z_St} {A : w_A} (h : w_M T σ A) : gR σ 8 76 0 = some (65012112, 0) := h.2.1.2.2.2.2.2.2.2.2.2.2.2.2.2.2.2.2.2.2.2.2.2.2.2.2.2.2.2.2.2.2.2.2.2.2.2.2.2.2.2.2.2.2.2.2.2.2.2.2.2.2.2.2.2.2.2.1
theorem rm_p77 {T σ : z_St} {A : w_A} (h : w_M T σ A) : gR σ 8 77 0 = some (66060688, 0) := h.2.1.2.2.2.2.2.2.2.2.2.2.2.2.2.2.2.2.2.2.2.2.2.2.2.2.2.2.2.2.2.2.2.2.2.2.2.2.2.2.2.2.2.2.2.2.2.2.2.2.2.2.2.2.2.2.2.2.1
theorem rm_p78 {T σ : z_St} {A : w_A} (h : w_M T σ A) : gR σ 8 78 0 = some (67109264, 0) := h.2.1.2.2.2.2.2.2.2.2.2.2.2.2.2.2.2.2.2.2.2.2.2.2.2.2.2.2.2.2.2.2.2.2.2.2.2.2.2.2.2.2.2.2.2.2.2.2.2.2.2.2.2.2.2.2.2.2.2.1
theorem rm_p79 {T σ : z_St} {A : w_A} (h : w_M T σ A) : gR σ 8 79 0 = some (68157840, 0) := h.2.1.2.2.2.2.2.2.2.2.2.2.2.2.2.2.2.2.2.2.2.2.2.2.2.2.2.2.2.2.2.2.2.2.2.2.2.2.2.2.2.2.2.2.2.2.2.2.2.2.2.2.2.2.2.2.2.2.2.2.1
theorem rm_p85 {T σ : z_St} {A : w_A} (h : w_M T σ A) : gR σ 8 85 0 = some (69206192, 0) := h.2.1.2.2.2.2.2.2.2.2.2.2.2.2.2.2.2.2.2.2.2.2.2.2.2.2.2.2.2.2.2.2.2.2.2.2.2.2.2.2.2.2.2.2.2.2.2.2.2.2.2.2.2.2.2.2.2.2.2.2.2.1
theorem rm_p86 {T σ : z_St} {A : w_A} (h : w_M T σ A) : gR σ 8 86 0 = some (70254768, 0) := h.2.1.2.2.2.2.2.2.2.2.2.2.2.2.2.2.2.2.2.2.2.2.2.2.2.2.2.2.2.2.2.2.2.2.2.2.2.2.2.2.2.2.2.2.2.2.2.2.2.2.2.2.2.2.2.2.2.2.2.2.2.2.1
theorem rm_p87 {T σ : z_St} {A : w_A} (h : w_M T σ A) : gR σ 8 87 0 = some (71303344, 0) := h.2.1.2.2.2.2.2.2.2.2.2.2.2.2.2.2.2.2.2.2.2.2.2.2.2.2.2.2.2.2.2.2.2.2.2.2.2.2.2.2.2.2.2.2.2.2.2.2.2.2.2.2.2.2.2.2.2.2.2.2.2.2.2.1
theorem rm_ST {T σ : z_St} {A : w_A} (h : w_M T σ A) (i : Nat) : gI σ 12583056 0 i = vI A 0 i := h.2.2.1.1 i
theorem rm_STAT {T σ : z_St} {A : w_A} (h : w_M T σ A) (i : Nat) : gI σ 16777360 0 i = vI A 1 i := h.2.2.1.2.1 i
theorem rm_AWAIT {T σ : z_St} {A : w_A} (h : w_M T σ A) (i : Nat) : gI σ 17825938 0 i = vI A 2 i := h.2.2.1.2.2.1 i
theorem rm_OVER {T σ : z_St} {A : w_A} (h : w_M T σ A) (i : Nat) : gI σ 19923088 0 i = vI A 3 i := h.2.2.1.2.2.2.1 i
theorem rm_ANSW {T σ : z_St} {A : w_A} (h : w_M T σ A) (i : Nat) : gI σ 20971664 0 i = vI A 4 i := h.2.2.1.2.2.2.2.1 i
theorem rm_OHOP {T σ : z_St} {A : w_A} (h : w_M T σ A) (i : Nat) : gI σ 22020240 0 i = vI A 5 i := h.2.2.1.2.2.2.2.2.1 i
theorem rm_WHOP {T σ : z_St} {A : w_A} (h : w_M T σ A) (i : Nat) : gI σ 23068816 0 i = vI A 6 i := h.2.2.1.2.2.2.2.2.2.1 i
theorem rm_EHOP {T σ : z_St} {A : w_A} (h : w_M T σ A) (i : Nat) : gI σ 24117392 0 i = vI A 7 i := h.2.2.1.2.2.2.2.2.2.2.1 i
theorem rm_CFL {T σ : z_St} {A : w_A} (h : w_M T σ A) (i : Nat) : gI σ 25165968 0 i = vI A 8 i := h.2.2.1.2.2.2.2.2.2.2.2.1 i
theorem rm_CHOP {T σ : z_St} {A : w_A} (h : w_M T σ A) (i : Nat) : gI σ 26214544 0 i = vI A 9 i := h.2.2.1.2.2.2.2.2.2.2.2.2.1 i
theorem rm_CEND {T σ : z_St} {A : w_A} (h : w_M T σ A) (i : Nat) : gI σ 27263120 0 i = vI A 10 i := h.2.2.1.2.2.2.2.2.2.2.2.2.2.1 i
theorem rm_STARTS {T σ : z_St} {A : w_A} (h : w_M T σ A) (i : Nat) : gI σ 11534482 0 i = vI A 11 i := h.2.2.1.2.2.2.2.2.2.2.2.2.2.2.1 i
theorem rm_CST {T σ : z_St} {A : w_A} (h : w_M T σ A) (i : Nat) : gI σ 28311856 0 i = vI A 12 i := h.2.2.1.2.2.2.2.2.2.2.2.2.2.2.2.1 i
theorem rm_CROLE {T σ : z_St} {A : w_A} (h : w_M T σ A) (i : Nat) : gI σ 30409008 0 i = vI A 13 i := h.2.2.1.2.2.2.2.2.2.2.2.2.2.2.2.2.1 i
theorem rm_LOST {T σ : z_St} {A : w_A} (h : w_M T σ A) : gI σ 8 2 0 = vI A 14 0 := h.2.2.1.2.2.2.2.2.2.2.2.2.2.2.2.2.2.1
theorem rm_QTIMES {T σ : z_St} {A : w_A} (h : w_M T σ A) (i : Nat) : gI σ 54528016 0 i = vI A 15 i := h.2.2.1.2.2.2.2.2.2.2.2.2.2.2.2.2.2.2.1 i
theorem rm_QHOP {T σ : z_St} {A : w_A} (h : w_M T σ A) (i : Nat) : gI σ 55576592 0 i = vI A 16 i := h.2.2.1.2.2.2.2.2.2.2.2.2.2.2.2.2.2.2.2.1 i
theorem rm_QEND {T σ : z_St} {A : w_A} (h : w_M T σ A) (i : Nat) : gI σ 56625168 0 i = vI A 17 i := h.2.2.1.2.2.2.2.2.2.2.2.2.2.2.2.2.2.2.2.2.1 i
theorem rm_ENOUGH {T σ : z_St} {A : w_A} (h : w_M T σ A) : gI σ 8 91 0 = vI A 19 0 := h.2.2.1.2.2.2.2.2.2.2.2.2.2.2.2.2.2.2.2.2.2
theorem rm_PEERS {T σ : z_St} {A : w_A} (h : w_M T σ A) : gI σ 8 7 0 = Int32.ofNat (vN A 0 0) := h.2.2.2.1.1
theorem rm_ACCS {T σ : z_St} {A : w_A} (h : w_M T σ A) : gI σ 8 35 0 = Int32.ofNat (vN A 1 0) := h.2.2.2.1.2.1
theorem rm_SESS {T σ : z_St} {A : w_A} (h : w_M T σ A) : gI σ 8 40 0 = Int32.ofNat (vN A 2 0) := h.2.2.2.1.2.2.1
theorem rm_ASKS {T σ : z_St} {A : w_A} (h : w_M T σ A) : gI σ 8 49 0 = Int32.ofNat (vN A 3 0) := h.2.2.2.1.2.2.2.1
theorem rm_KEPTS {T σ : z_St} {A : w_A} (h : w_M T σ A) : gI σ 8 59 0 = Int32.ofNat (vN A 4 0) := h.2.2.2.1.2.2.2.2.1
theorem rm_NOW {T σ : z_St} {A : w_A} (h : w_M T σ A) : gI σ 8 1 0 = Int32.ofNat (vN A 5 0) := h.2.2.2.1.2.2.2.2.2.1
theorem rm_HOPS {T σ : z_St} {A : w_A} (h : w_M T σ A) : gI σ 8 34 0 = Int32.ofNat (vN A 6 0 + 1) := h.2.2.2.1.2.2.2.2.2.2.1
theorem rm_LIM {T σ : z_St} {A : w_A} (h : w_M T σ A) (i : Nat) : gI σ 13631632 0 i = Int32.ofNat (vN A 7 i) := h.2.2.2.1.2.2.2.2.2.2.2.1 i
theorem rm_DUE {T σ : z_St} {A : w_A} (h : w_M T σ A) (i : Nat) : gI σ 18874512 0 i = Int32.ofNat (vN A 8 i) := h.2.2.2.1.2.2.2.2.2.2.2.2.1 i
theorem rm_OWN {T σ : z_St} {A : w_A} (h : w_M T σ A) (i : Nat) : gI σ 14680208 0 i = Int32.ofNat (vN A 9 i) := h.2.2.2.1.2.2.2.2.2.2.2.2.2.1 i
theorem rm_CAME {T σ : z_St} {A : w_A} (h : w_M T σ A) (i : Nat) : gI σ 15728784 0 i = Int32.ofNat (vN A 10 i) := h.2.2.2.1.2.2.2.2.2.2.2.2.2.2.1 i
theorem rm_CPEER {T σ : z_St} {A : w_A} (h : w_M T σ A) (i : Nat) : gI σ 29360432 0 i = Int32.ofNat (vN A 11 i) := h.2.2.2.1.2.2.2.2.2.2.2.2.2.2.2.1 i
theorem rm_QPEER {T σ : z_St} {A : w_A} (h : w_M T σ A) (i : Nat) : gI σ 53479440 0 i = Int32.ofNat (vN A 12 i - 1) := h.2.2.2.1.2.2.2.2.2.2.2.2.2.2.2.2.1 i
theorem rm_INL {T σ : z_St} {A : w_A} (h : w_M T σ A) (i : Nat) : gI σ 32506160 0 i = Int32.ofNat (vN A 14 i) := h.2.2.2.1.2.2.2.2.2.2.2.2.2.2.2.2.2.1 i
theorem rm_QCONN {T σ : z_St} {A : w_A} (h : w_M T σ A) (i : Nat) : gI σ 57673744 0 i = Int32.ofNat (vN A 19 i) := h.2.2.2.1.2.2.2.2.2.2.2.2.2.2.2.2.2.2 i
theorem rm_ANUM {T σ : z_St} {A : w_A} (h : w_M T σ A) (i : Nat) : gJ σ 36700691 0 i = vJ A 0 i := h.2.2.2.2.1.1 i
theorem rm_ABAL {T σ : z_St} {A : w_A} (h : w_M T σ A) (i : Nat) : gJ σ 37749267 0 i = vJ A 1 i := h.2.2.2.2.1.2.1 i
theorem rm_ARES {T σ : z_St} {A : w_A} (h : w_M T σ A) (i : Nat) : gJ σ 38797843 0 i = vJ A 2 i := h.2.2.2.2.1.2.2.1 i
theorem rm_ACHG {T σ : z_St} {A : w_A} (h : w_M T σ A) (i : Nat) : gJ σ 39846419 0 i = vJ A 3 i := h.2.2.2.2.1.2.2.2.1 i
theorem rm_QRES {T σ : z_St} {A : w_A} (h : w_M T σ A) (i : Nat) : gJ σ 52430867 0 i = vJ A 4 i := h.2.2.2.2.1.2.2.2.2 i
theorem rm_G {T σ : z_St} {A : w_A} (h : w_M T σ A) : m_G σ A := h.2.2.2.2.2.1
theorem rm_H {T σ : z_St} {A : w_A} (h : w_M T σ A) : m_H σ A := h.2.2.2.2.2.2.1
theorem rm_I {T σ : z_St} {A : w_A} (h : w_M T σ A) : m_I σ A := h.2.2.2.2.2.2.2.1
theorem rm_J {T σ : z_St} {A : w_A} (h : w_M T σ A) : m_J σ A := h.2.2.2.2.2.2.2.2.1
theorem rm_K {T σ : z_St} {A : w_A} (h : w_M T σ A) : m_K σ A := h.2.2.2.2.2.2.2.2.2.1
theorem rm_M {T σ : z_St} {A : w_A} (h : w_M T σ A) : m_M σ A := h.2.2.2.2.2.2.2.2.2.2.2.1
theorem rm_N {T σ : z_St} {A : w_A} (h : w_M T σ A) : m_N σ A := h.2.2.2.2.2.2.2.2.2.2.2.2
theorem m_T_wI {T σ : z_St} {a b n : Nat} {x : Int32} (h : m_T T σ) (ha : z_isM a) : m_T T (wI σ a b n x) := by
  refine ⟨fun c hc => ?_, h.2⟩
  have e : c ≠ a := fun e => hc (e ▸ ha)
  obtain ⟨h1, h2, h3⟩ := h.1 c hc
  refine ⟨?_, ?_, ?_⟩
  · rw [← h1]; funext d m; simp only [gI_wI, gI_wJ, gI_wR, e, false_and, if_false]
  · rw [← h2]; funext d m; simp only [gJ_wI, gJ_wJ, gJ_wR, e, false_and, if_false]
  · rw [← h3]; funext d m; simp only [gR_wI, gR_wJ, gR_wR, e, false_and, if_false]
theorem m_T_wJ {T σ : z_St} {a b n : Nat} {x : Int64} (h : m_T T σ) (ha : z_isM a) : m_T T (wJ σ a b n x) := by
  refine ⟨fun c hc => ?_, h.2⟩
  have e : c ≠ a := fun e => hc (e ▸ ha)
  obtain ⟨h1, h2, h3⟩ := h.1 c hc
  refine ⟨?_, ?_, ?_⟩
  · rw [← h1]; funext d m; simp only [gI_wI, gI_wJ, gI_wR, e, false_and, if_false]
  · rw [← h2]; funext d m; simp only [gJ_wI, gJ_wJ, gJ_wR, e, false_and, if_false]
  · rw [← h3]; funext d m; simp only [gR_wI, gR_wJ, gR_wR, e, false_and, if_false]
theorem m_T_wR {T σ : z_St} {a b n : Nat} {x : Option z_Ad} (h : m_T T σ) (ha : z_isM a) : m_T T (wR σ a b n x) := by
  refine ⟨fun c hc => ?_, h.2⟩
  have e : c ≠ a := fun e => hc (e ▸ ha)
  obtain ⟨h1, h2, h3⟩ := h.1 c hc
  refine ⟨?_, ?_, ?_⟩
  · rw [← h1]; funext d m; simp only [gI_wI, gI_wJ, gI_wR, e, false_and, if_false]
  · rw [← h2]; funext d m; simp only [gJ_wI, gJ_wJ, gJ_wR, e, false_and, if_false]
  · rw [← h3]; funext d m; simp only [gR_wI, gR_wJ, gR_wR, e, false_and, if_false]
theorem z_isM_yes (a : Nat) (h : (decide (a = 8) || (decide (7 ≤ a / 1048576) && decide (a / 1048576 ≤ 68))) = true) : z_isM a := by
  unfold z_isM
  simpa using h
theorem wm_ST {T σ : z_St} {A : w_A} (h : w_M T σ A) (i : Nat) (x : Int32) : w_M T (wI σ 12583056 0 i x) (sI A 0 i x) := by
  obtain ⟨hT, hA, hB, hC, hD, hG, hH, hI, hJ, hK, hL, hM, hN⟩ := h
  refine ⟨m_T_wI hT (z_isM_yes _ rfl), hA, ?_, hC, hD, hG, hH, hI, hJ, hK, hL, hM, hN⟩
  · unfold m_B at hB ⊢
    refine ⟨?_, ?_, ?_, ?_, ?_, ?_, ?_, ?_, ?_, ?_, ?_, ?_, ?_, ?_, ?_, ?_, ?_, ?_, ?_⟩ <;> (try intro j) <;> simp only [hB, gI_wI, gI_wJ, gI_wR, gJ_wI, gJ_wJ, gJ_wR, gR_wI, gR_wJ, gR_wR, vI_sI, vI_sJ, vI_sN, vI_sL, vJ_sI, vJ_sJ, vJ_sN, vJ_sL, vN_sI, vN_sJ, vN_sN, vN_sL, vL_sI, vL_sJ, vL_sN, vL_sL, vI_tI, vI_tJ, vI_tN, vI_tL, vJ_tI, vJ_tJ, vJ_tN, vJ_tL, vN_tI, vN_tJ, vN_tN, vN_tL, vL_tI, vL_tJ, vL_tN, vL_tL, vI_sP, vJ_sP, vN_sP, vL_sP, vP_sI, vP_sJ, vP_sN, vP_sL, vP_sP, vP_tI, vP_tJ, vP_tN, vP_tL, Nat.reduceEqDiff, false_and, true_and, if_false, if_true, and_self, and_true, reduceIte, Nat.succ_ne_self, Nat.reduceEqDiff, Nat.reduceDiv, Nat.reduceMul, Nat.reduceAdd, false_and, and_false, true_and, and_true, and_self, if_false, if_true, reduceIte, reduceCtorEq, ne_eq, not_false_eq_true] <;> (first | (split <;> rfl) | rfl | congr)

theorem wm_STAT {T σ : z_St} {A : w_A} (h : w_M T σ A) (i : Nat) (x : Int32) : w_M T (wI σ 16777360 0 i x) (sI A 1 i x) := by
  obtain ⟨hT, hA, hB, hC, hD, hG, hH, hI, hJ, hK, hL, hM, hN⟩ := h
  refine ⟨m_T_wI hT (z_isM_yes _ rfl), hA, ?_, hC, hD, hG, hH, hI, hJ, hK, hL, hM, hN⟩
  · unfold m_B at hB ⊢
    refine ⟨?_, ?_, ?_, ?_, ?_, ?_, ?_, ?_, ?_, ?_, ?_, ?_, ?_, ?_, ?_, ?_, ?_, ?_, ?_⟩ <;> (try intro j) <;> simp only [hB, gI_wI, gI_wJ, gI_wR, gJ_wI, gJ_wJ, gJ_wR, gR_wI, gR_wJ, gR_wR, vI_sI, vI_sJ, vI_sN, vI_sL, vJ_sI, vJ_sJ, vJ_sN, vJ_sL, vN_sI, vN_sJ, vN_sN, vN_sL, vL_sI, vL_sJ, vL_sN, vL_sL, vI_tI, vI_tJ, vI_tN, vI_tL, vJ_tI, vJ_tJ, vJ_tN, vJ_tL, vN_tI, vN_tJ, vN_tN, vN_tL, vL_tI, vL_tJ, vL_tN, vL_tL, vI_sP, vJ_sP, vN_sP, vL_sP, vP_sI, vP_sJ, vP_sN, vP_sL, vP_sP, vP_tI, vP_tJ, vP_tN, vP_tL, Nat.reduceEqDiff, false_and, true_and, if_false, if_true, and_self, and_true, reduceIte, Nat.succ_ne_self, Nat.reduceEqDiff, Nat.reduceDiv, Nat.reduceMul, Nat.reduceAdd, false_and, and_false, true_and, and_true, and_self, if_false, if_true, reduceIte, reduceCtorEq, ne_eq, not_false_eq_true] <;> (first | (split <;> rfl) | rfl | congr)

theorem wm_AWAIT {T σ : z_St} {A : w_A} (h : w_M T σ A) (i : Nat) (x : Int32) : w_M T (wI σ 17825938 0 i x) (sI A 2 i x) := by
  obtain ⟨hT, hA, hB, hC, hD, hG, hH, hI, hJ, hK, hL, hM, hN⟩ := h
  refine ⟨m_T_wI hT (z_isM_yes _ rfl), hA, ?_, hC, hD, hG, hH, hI, hJ, hK, hL, hM, hN⟩
  · unfold m_B at hB ⊢
    refine ⟨?_, ?_, ?_, ?_, ?_, ?_, ?_, ?_, ?_, ?_, ?_, ?_, ?_, ?_, ?_, ?_, ?_, ?_, ?_⟩ <;> (try intro j) <;> simp only [hB, gI_wI, gI_wJ, gI_wR, gJ_wI, gJ_wJ, gJ_wR, gR_wI, gR_wJ, gR_wR, vI_sI, vI_sJ, vI_sN, vI_sL, vJ_sI, vJ_sJ, vJ_sN, vJ_sL, vN_sI, vN_sJ, vN_sN, vN_sL, vL_sI, vL_sJ, vL_sN, vL_sL, vI_tI, vI_tJ, vI_tN, vI_tL, vJ_tI, vJ_tJ, vJ_tN, vJ_tL, vN_tI, vN_tJ, vN_tN, vN_tL, vL_tI, vL_tJ, vL_tN, vL_tL, vI_sP, vJ_sP, vN_sP, vL_sP, vP_sI, vP_sJ, vP_sN, vP_sL, vP_sP, vP_tI, vP_tJ, vP_tN, vP_tL, Nat.reduceEqDiff, false_and, true_and, if_false, if_true, and_self, and_true, reduceIte, Nat.succ_ne_self, Nat.reduceEqDiff, Nat.reduceDiv, Nat.reduceMul, Nat.reduceAdd, false_and, and_false, true_and, and_true, and_self, if_false, if_true, reduceIte, reduceCtorEq, ne_eq, not_false_eq_true] <;> (first | (split <;> rfl) | rfl | congr)

theorem wm_OVER {T σ : z_St} {A : w_A} (h : w_M T σ A) (i : Nat) (x : Int32) : w_M T (wI σ 19923088 0 i x) (sI A 3 i x) := by
  obtain ⟨hT, hA, hB, hC, hD, hG, hH, hI, hJ, hK, hL, hM, hN⟩ := h
  refine ⟨m_T_wI hT (z_isM_yes _ rfl), hA, ?_, hC, hD, hG, hH, hI, hJ, hK, hL, hM, hN⟩
  · unfold m_B at hB ⊢
    refine ⟨?_, ?_, ?_, ?_, ?_, ?_, ?_, ?_, ?_, ?_, ?_, ?_, ?_, ?_, ?_, ?_, ?_, ?_, ?_⟩ <;> (try intro j) <;> simp only [hB, gI_wI, gI_wJ, gI_wR, gJ_wI, gJ_wJ, gJ_wR, gR_wI, gR_wJ, gR_wR, vI_sI, vI_sJ, vI_sN, vI_sL, vJ_sI, vJ_sJ, vJ_sN, vJ_sL, vN_sI, vN_sJ, vN_sN, vN_sL, vL_sI, vL_sJ, vL_sN, vL_sL, vI_tI, vI_tJ, vI_tN, vI_tL, vJ_tI, vJ_tJ, vJ_tN, vJ_tL, vN_tI, vN_tJ, vN_tN, vN_tL, vL_tI, vL_tJ, vL_tN, vL_tL, vI_sP, vJ_sP, vN_sP, vL_sP, vP_sI, vP_sJ, vP_sN, vP_sL, vP_sP, vP_tI, vP_tJ, vP_tN, vP_tL, Nat.reduceEqDiff, false_and, true_and, if_false, if_true, and_self, and_true, reduceIte, Nat.succ_ne_self, Nat.reduceEqDiff, Nat.reduceDiv, Nat.reduceMul, Nat.reduceAdd, false_and, and_false, true_and, and_true, and_self, if_false, if_true, reduceIte, reduceCtorEq, ne_eq, not_false_eq_true] <;> (first | (split <;> rfl) | rfl | congr)

theorem wm_ANSW {T σ : z_St} {A : w_A} (h : w_M T σ A) (i : Nat) (x : Int32) : w_M T (wI σ 20971664 0 i x) (sI A 4 i x) := by
  obtain ⟨hT, hA, hB, hC, hD, hG, hH, hI, hJ, hK, hL, hM, hN⟩ := h
  refine ⟨m_T_wI hT (z_isM_yes _ rfl), hA, ?_, hC, hD, hG, hH, hI, hJ, hK, hL, hM, hN⟩
  · unfold m_B at hB ⊢
    refine ⟨?_, ?_, ?_, ?_, ?_, ?_, ?_, ?_, ?_, ?_, ?_, ?_, ?_, ?_, ?_, ?_, ?_, ?_, ?_⟩ <;> (try intro j) <;> simp only [hB, gI_wI, gI_wJ, gI_wR, gJ_wI, gJ_wJ, gJ_wR, gR_wI, gR_wJ, gR_wR, vI_sI, vI_sJ, vI_sN, vI_sL, vJ_sI, vJ_sJ, vJ_sN, vJ_sL, vN_sI, vN_sJ, vN_sN, vN_sL, vL_sI, vL_sJ, vL_sN, vL_sL, vI_tI, vI_tJ, vI_tN, vI_tL, vJ_tI, vJ_tJ, vJ_tN, vJ_tL, vN_tI, vN_tJ, vN_tN, vN_tL, vL_tI, vL_tJ, vL_tN, vL_tL, vI_sP, vJ_sP, vN_sP, vL_sP, vP_sI, vP_sJ, vP_sN, vP_sL, vP_sP, vP_tI, vP_tJ, vP_tN, vP_tL, Nat.reduceEqDiff, false_and, true_and, if_false, if_true, and_self, and_true, reduceIte, Nat.succ_ne_self, Nat.reduceEqDiff, Nat.reduceDiv, Nat.reduceMul, Nat.reduceAdd, false_and, and_false, true_and, and_true, and_self, if_false, if_true, reduceIte, reduceCtorEq, ne_eq, not_false_eq_true] <;> (first | (split <;> rfl) | rfl | congr)

theorem wm_OHOP {T σ : z_St} {A : w_A} (h : w_M T σ A) (i : Nat) (x : Int32) : w_M T (wI σ 22020240 0 i x) (sI A 5 i x) := by
  obtain ⟨hT, hA, hB, hC, hD, hG, hH, hI, hJ, hK, hL, hM, hN⟩ := h
  refine ⟨m_T_wI hT (z_isM_yes _ rfl), hA, ?_, hC, hD, hG, hH, hI, hJ, hK, hL, hM, hN⟩
  · unfold m_B at hB ⊢
    refine ⟨?_, ?_, ?_, ?_, ?_, ?_, ?_, ?_, ?_, ?_, ?_, ?_, ?_, ?_, ?_, ?_, ?_, ?_, ?_⟩ <;> (try intro j) <;> simp only [hB, gI_wI, gI_wJ, gI_wR, gJ_wI, gJ_wJ, gJ_wR, gR_wI, gR_wJ, gR_wR, vI_sI, vI_sJ, vI_sN, vI_sL, vJ_sI, vJ_sJ, vJ_sN, vJ_sL, vN_sI, vN_sJ, vN_sN, vN_sL, vL_sI, vL_sJ, vL_sN, vL_sL, vI_tI, vI_tJ, vI_tN, vI_tL, vJ_tI, vJ_tJ, vJ_tN, vJ_tL, vN_tI, vN_tJ, vN_tN, vN_tL, vL_tI, vL_tJ, vL_tN, vL_tL, vI_sP, vJ_sP, vN_sP, vL_sP, vP_sI, vP_sJ, vP_sN, vP_sL, vP_sP, vP_tI, vP_tJ, vP_tN, vP_tL, Nat.reduceEqDiff, false_and, true_and, if_false, if_true, and_self, and_true, reduceIte, Nat.succ_ne_self, Nat.reduceEqDiff, Nat.reduceDiv, Nat.reduceMul, Nat.reduceAdd, false_and, and_false, true_and, and_true, and_self, if_false, if_true, reduceIte, reduceCtorEq, ne_eq, not_false_eq_true] <;> (first | (split <;> rfl) | rfl | congr)

theorem wm_WHOP {T σ : z_St} {A : w_A} (h : w_M T σ A) (i : Nat) (x : Int32) : w_M T (wI σ 23068816 0 i x) (sI A 6 i x) := by
  obtain ⟨hT, hA, hB, hC, hD, hG, hH, hI, hJ, hK, hL, hM, hN⟩ := h
  refine ⟨m_T_wI hT (z_isM_yes _ rfl), hA, ?_, hC, hD, hG, hH, hI, hJ, hK, hL, hM, hN⟩
  · unfold m_B at hB ⊢
    refine ⟨?_, ?_, ?_, ?_, ?_, ?_, ?_, ?_, ?_, ?_, ?_, ?_, ?_, ?_, ?_, ?_, ?_, ?_, ?_⟩ <;> (try intro j) <;> simp only [hB, gI_wI, gI_wJ, gI_wR, gJ_wI, gJ_wJ, gJ_wR, gR_wI, gR_wJ, gR_wR, vI_sI, vI_sJ, vI_sN, vI_sL, vJ_sI, vJ_sJ, vJ_sN, vJ_sL, vN_sI, vN_sJ, vN_sN, vN_sL, vL_sI, vL_sJ, vL_sN, vL_sL, vI_tI, vI_tJ, vI_tN, vI_tL, vJ_tI, vJ_tJ, vJ_tN, vJ_tL, vN_tI, vN_tJ, vN_tN, vN_tL, vL_tI, vL_tJ, vL_tN, vL_tL, vI_sP, vJ_sP, vN_sP, vL_sP, vP_sI, vP_sJ, vP_sN, vP_sL, vP_sP, vP_tI, vP_tJ, vP_tN, vP_tL, Nat.reduceEqDiff, false_and, true_and, if_false, if_true, and_self, and_true, reduceIte, Nat.succ_ne_self, Nat.reduceEqDiff, Nat.reduceDiv, Nat.reduceMul, Nat.reduceAdd, false_and, and_false, true_and, and_true, and_self, if_false, if_true, reduceIte, reduceCtorEq, ne_eq, not_false_eq_true] <;> (first | (split <;> rfl) | rfl | congr)

theorem wm_EHOP {T σ : z_St} {A : w_A} (h : w_M T σ A) (i : Nat) (x : Int32) : w_M T (wI σ 24117392 0 i x) (sI A 7 i x) := by
  obtain ⟨hT, hA, hB, hC, hD, hG, hH, hI, hJ, hK, hL, hM, hN⟩ := h
  refine ⟨m_T_wI hT (z_isM_yes _ rfl), hA, ?_, hC, hD, hG, hH, hI, hJ, hK, hL, hM, hN⟩
  · unfold m_B at hB ⊢
    refine ⟨?_, ?_, ?_, ?_, ?_, ?_, ?_, ?_, ?_, ?_, ?_, ?_, ?_, ?_, ?_, ?_, ?_, ?_, ?_⟩ <;> (try intro j) <;> simp only [hB, gI_wI, gI_wJ, gI_wR, gJ_wI, gJ_wJ, gJ_wR, gR_wI, gR_wJ, gR_wR, vI_sI, vI_sJ, vI_sN, vI_sL, vJ_sI, vJ_sJ, vJ_sN, vJ_sL, vN_sI, vN_sJ, vN_sN, vN_sL, vL_sI, vL_sJ, vL_sN, vL_sL, vI_tI, vI_tJ, vI_tN, vI_tL, vJ_tI, vJ_tJ, vJ_tN, vJ_tL, vN_tI, vN_tJ, vN_tN, vN_tL, vL_tI, vL_tJ, vL_tN, vL_tL, vI_sP, vJ_sP, vN_sP, vL_sP, vP_sI, vP_sJ, vP_sN, vP_sL, vP_sP, vP_tI, vP_tJ, vP_tN, vP_tL, Nat.reduceEqDiff, false_and, true_and, if_false, if_true, and_self, and_true, reduceIte, Nat.succ_ne_self, Nat.reduceEqDiff, Nat.reduceDiv, Nat.reduceMul, Nat.reduceAdd, false_and, and_false, true_and, and_true, and_self, if_false, if_true, reduceIte, reduceCtorEq, ne_eq, not_false_eq_true] <;> (first | (split <;> rfl) | rfl | congr)

theorem wm_CFL {T σ : z_St} {A : w_A} (h : w_M T σ A) (i : Nat) (x : Int32) : w_M T (wI σ 25165968 0 i x) (sI A 8 i x) := by
  obtain ⟨hT, hA, hB, hC, hD, hG, hH, hI, hJ, hK, hL, hM, hN⟩ := h
  refine ⟨m_T_wI hT (z_isM_yes _ rfl), hA, ?_, hC, hD, hG, hH, hI, hJ, hK, hL, hM, hN⟩
  · unfold m_B at hB ⊢
    refine ⟨?_, ?_, ?_, ?_, ?_, ?_, ?_, ?_, ?_, ?_, ?_, ?_, ?_, ?_, ?_, ?_, ?_, ?_, ?_⟩ <;> (try intro j) <;> simp only [hB, gI_wI, gI_wJ, gI_wR, gJ_wI, gJ_wJ, gJ_wR, gR_wI, gR_wJ, gR_wR, vI_sI, vI_sJ, vI_sN, vI_sL, vJ_sI, vJ_sJ, vJ_sN, vJ_sL, vN_sI, vN_sJ, vN_sN, vN_sL, vL_sI, vL_sJ, vL_sN, vL_sL, vI_tI, vI_tJ, vI_tN, vI_tL, vJ_tI, vJ_tJ, vJ_tN, vJ_tL, vN_tI, vN_tJ, vN_tN, vN_tL, vL_tI, vL_tJ, vL_tN, vL_tL, vI_sP, vJ_sP, vN_sP, vL_sP, vP_sI, vP_sJ, vP_sN, vP_sL, vP_sP, vP_tI, vP_tJ, vP_tN, vP_tL, Nat.reduceEqDiff, false_and, true_and, if_false, if_true, and_self, and_true, reduceIte, Nat.succ_ne_self, Nat.reduceEqDiff, Nat.reduceDiv, Nat.reduceMul, Nat.reduceAdd, false_and, and_false, true_and, and_true, and_self, if_false, if_true, reduceIte, reduceCtorEq, ne_eq, not_false_eq_true] <;> (first | (split <;> rfl) | rfl | congr)

theorem wm_CHOP {T σ : z_St} {A : w_A} (h : w_M T σ A) (i : Nat) (x : Int32) : w_M T (wI σ 26214544 0 i x) (sI A 9 i x) := by
  obtain ⟨hT, hA, hB, hC, hD, hG, hH, hI, hJ, hK, hL, hM, hN⟩ := h
  refine ⟨m_T_wI hT (z_isM_yes _ rfl), hA, ?_, hC, hD, hG, hH, hI, hJ, hK, hL, hM, hN⟩
  · unfold m_B at hB ⊢
    refine ⟨?_, ?_, ?_, ?_, ?_, ?_, ?_, ?_, ?_, ?_, ?_, ?_, ?_, ?_, ?_, ?_, ?_, ?_, ?_⟩ <;> (try intro j) <;> simp only [hB, gI_wI, gI_wJ, gI_wR, gJ_wI, gJ_wJ, gJ_wR, gR_wI, gR_wJ, gR_wR, vI_sI, vI_sJ, vI_sN, vI_sL, vJ_sI, vJ_sJ, vJ_sN, vJ_sL, vN_sI, vN_sJ, vN_sN, vN_sL, vL_sI, vL_sJ, vL_sN, vL_sL, vI_tI, vI_tJ, vI_tN, vI_tL, vJ_tI, vJ_tJ, vJ_tN, vJ_tL, vN_tI, vN_tJ, vN_tN, vN_tL, vL_tI, vL_tJ, vL_tN, vL_tL, vI_sP, vJ_sP, vN_sP, vL_sP, vP_sI, vP_sJ, vP_sN, vP_sL, vP_sP, vP_tI, vP_tJ, vP_tN, vP_tL, Nat.reduceEqDiff, false_and, true_and, if_false, if_true, and_self, and_true, reduceIte, Nat.succ_ne_self, Nat.reduceEqDiff, Nat.reduceDiv, Nat.reduceMul, Nat.reduceAdd, false_and, and_false, true_and, and_true, and_self, if_false, if_true, reduceIte, reduceCtorEq, ne_eq, not_false_eq_true] <;> (first | (split <;> rfl) | rfl | congr)

theorem wm_CEND {T σ : z_St} {A : w_A} (h : w_M T σ A) (i : Nat) (x : Int32) : w_M T (wI σ 27263120 0 i x) (sI A 10 i x) := by
  obtain ⟨hT, hA, hB, hC, hD, hG, hH, hI, hJ, hK, hL, hM, hN⟩ := h
  refine ⟨m_T_wI hT (z_isM_yes _ rfl), hA, ?_, hC, hD, hG, hH, hI, hJ, hK, hL, hM, hN⟩
  · unfold m_B at hB ⊢
    refine ⟨?_, ?_, ?_, ?_, ?_, ?_, ?_, ?_, ?_, ?_, ?_, ?_, ?_, ?_, ?_, ?_, ?_, ?_, ?_⟩ <;> (try intro j) <;> simp only [hB, gI_wI, gI_wJ, gI_wR, gJ_wI, gJ_wJ, gJ_wR, gR_wI, gR_wJ, gR_wR, vI_sI, vI_sJ, vI_sN, vI_sL, vJ_sI, vJ_sJ, vJ_sN, vJ_sL, vN_sI, vN_sJ, vN_sN, vN_sL, vL_sI, vL_sJ, vL_sN, vL_sL, vI_tI, vI_tJ, vI_tN, vI_tL, vJ_tI, vJ_tJ, vJ_tN, vJ_tL, vN_tI, vN_tJ, vN_tN, vN_tL, vL_tI, vL_tJ, vL_tN, vL_tL, vI_sP, vJ_sP, vN_sP, vL_sP, vP_sI, vP_sJ, vP_sN, vP_sL, vP_sP, vP_tI, vP_tJ, vP_tN, vP_tL, Nat.reduceEqDiff, false_and, true_and, if_false, if_true, and_self, and_true, reduceIte, Nat.succ_ne_self, Nat.reduceEqDiff, Nat.reduceDiv, Nat.reduceMul, Nat.reduceAdd, false_and, and_false, true_and, and_true, and_self, if_false, if_true, reduceIte, reduceCtorEq, ne_eq, not_false_eq_true] <;> (first | (split <;> rfl) | rfl | congr)

theorem wm_STARTS {T σ : z_St} {A : w_A} (h : w_M T σ A) (i : Nat) (x : Int32) : w_M T (wI σ 11534482 0 i x) (sI A 11 i x) := by
  obtain ⟨hT, hA, hB, hC, hD, hG, hH, hI, hJ, hK, hL, hM, hN⟩ := h
  refine ⟨m_T_wI hT (z_isM_yes _ rfl), hA, ?_, hC, hD, hG, hH, hI, hJ, hK, hL, hM, hN⟩
  · unfold m_B at hB ⊢
    refine ⟨?_, ?_, ?_, ?_, ?_, ?_, ?_, ?_, ?_, ?_, ?_, ?_, ?_, ?_, ?_, ?_, ?_, ?_, ?_⟩ <;> (try intro j) <;> simp only [hB, gI_wI, gI_wJ, gI_wR, gJ_wI, gJ_wJ, gJ_wR, gR_wI, gR_wJ, gR_wR, vI_sI, vI_sJ, vI_sN, vI_sL, vJ_sI, vJ_sJ, vJ_sN, vJ_sL, vN_sI, vN_sJ, vN_sN, vN_sL, vL_sI, vL_sJ, vL_sN, vL_sL, vI_tI, vI_tJ, vI_tN, vI_tL, vJ_tI, vJ_tJ, vJ_tN, vJ_tL, vN_tI, vN_tJ, vN_tN, vN_tL, vL_tI, vL_tJ, vL_tN, vL_tL, vI_sP, vJ_sP, vN_sP, vL_sP, vP_sI, vP_sJ, vP_sN, vP_sL, vP_sP, vP_tI, vP_tJ, vP_tN, vP_tL, Nat.reduceEqDiff, false_and, true_and, if_false, if_true, and_self, and_true, reduceIte, Nat.succ_ne_self, Nat.reduceEqDiff, Nat.reduceDiv, Nat.reduceMul, Nat.reduceAdd, false_and, and_false, true_and, and_true, and_self, if_false, if_true, reduceIte, reduceCtorEq, ne_eq, not_false_eq_true] <;> (first | (split <;> rfl) | rfl | congr)

theorem wm_CST {T σ : z_St} {A : w_A} (h : w_M T σ A) (i : Nat) (x : Int32) : w_M T (wI σ 28311856 0 i x) (sI A 12 i x) := by
  obtain ⟨hT, hA, hB, hC, hD, hG, hH, hI, hJ, hK, hL, hM, hN⟩ := h
  refine ⟨m_T_wI hT (z_isM_yes _ rfl), hA, ?_, hC, hD, hG, hH, hI, hJ, hK, hL, hM, hN⟩
  · unfold m_B at hB ⊢
    refine ⟨?_, ?_, ?_, ?_, ?_, ?_, ?_, ?_, ?_, ?_, ?_, ?_, ?_, ?_, ?_, ?_, ?_, ?_, ?_⟩ <;> (try intro j) <;> simp only [hB, gI_wI, gI_wJ, gI_wR, gJ_wI, gJ_wJ, gJ_wR, gR_wI, gR_wJ, gR_wR, vI_sI, vI_sJ, vI_sN, vI_sL, vJ_sI, vJ_sJ, vJ_sN, vJ_sL, vN_sI, vN_sJ, vN_sN, vN_sL, vL_sI, vL_sJ, vL_sN, vL_sL, vI_tI, vI_tJ, vI_tN, vI_tL, vJ_tI, vJ_tJ, vJ_tN, vJ_tL, vN_tI, vN_tJ, vN_tN, vN_tL, vL_tI, vL_tJ, vL_tN, vL_tL, vI_sP, vJ_sP, vN_sP, vL_sP, vP_sI, vP_sJ, vP_sN, vP_sL, vP_sP, vP_tI, vP_tJ, vP_tN, vP_tL, Nat.reduceEqDiff, false_and, true_and, if_false, if_true, and_self, and_true, reduceIte, Nat.succ_ne_self, Nat.reduceEqDiff, Nat.reduceDiv, Nat.reduceMul, Nat.reduceAdd, false_and, and_false, true_and, and_true, and_self, if_false, if_true, reduceIte, reduceCtorEq, ne_eq, not_false_eq_true] <;> (first | (split <;> rfl) | rfl | congr)

theorem wm_CROLE {T σ : z_St} {A : w_A} (h : w_M T σ A) (i : Nat) (x : Int32) : w_M T (wI σ 30409008 0 i x) (sI A 13 i x) := by
  obtain ⟨hT, hA, hB, hC, hD, hG, hH, hI, hJ, hK, hL, hM, hN⟩ := h
  refine ⟨m_T_wI hT (z_isM_yes _ rfl), hA, ?_, hC, hD, hG, hH, hI, hJ, hK, hL, hM, hN⟩
  · unfold m_B at hB ⊢
    refine ⟨?_, ?_, ?_, ?_, ?_, ?_, ?_, ?_, ?_, ?_, ?_, ?_, ?_, ?_, ?_, ?_, ?_, ?_, ?_⟩ <;> (try intro j) <;> simp only [hB, gI_wI, gI_wJ, gI_wR, gJ_wI, gJ_wJ, gJ_wR, gR_wI, gR_wJ, gR_wR, vI_sI, vI_sJ, vI_sN, vI_sL, vJ_sI, vJ_sJ, vJ_sN, vJ_sL, vN_sI, vN_sJ, vN_sN, vN_sL, vL_sI, vL_sJ, vL_sN, vL_sL, vI_tI, vI_tJ, vI_tN, vI_tL, vJ_tI, vJ_tJ, vJ_tN, vJ_tL, vN_tI, vN_tJ, vN_tN, vN_tL, vL_tI, vL_tJ, vL_tN, vL_tL, vI_sP, vJ_sP, vN_sP, vL_sP, vP_sI, vP_sJ, vP_sN, vP_sL, vP_sP, vP_tI, vP_tJ, vP_tN, vP_tL, Nat.reduceEqDiff, false_and, true_and, if_false, if_true, and_self, and_true, reduceIte, Nat.succ_ne_self, Nat.reduceEqDiff, Nat.reduceDiv, Nat.reduceMul, Nat.reduceAdd, false_and, and_false, true_and, and_true, and_self, if_false, if_true, reduceIte, reduceCtorEq, ne_eq, not_false_eq_true] <;> (first | (split <;> rfl) | rfl | congr)

theorem wm_LOST {T σ : z_St} {A : w_A} (h : w_M T σ A) (x : Int32) : w_M T (wI σ 8 2 0 x) (sI A 14 0 x) := by
  obtain ⟨hT, hA, hB, hC, hD, hG, hH, hI, hJ, hK, hL, hM, hN⟩ := h
  refine ⟨m_T_wI hT (z_isM_yes _ rfl), hA, ?_, hC, hD, hG, hH, hI, hJ, hK, hL, hM, hN⟩
  · unfold m_B at hB ⊢
    refine ⟨?_, ?_, ?_, ?_, ?_, ?_, ?_, ?_, ?_, ?_, ?_, ?_, ?_, ?_, ?_, ?_, ?_, ?_, ?_⟩ <;> (try intro j) <;> simp only [hB, gI_wI, gI_wJ, gI_wR, gJ_wI, gJ_wJ, gJ_wR, gR_wI, gR_wJ, gR_wR, vI_sI, vI_sJ, vI_sN, vI_sL, vJ_sI, vJ_sJ, vJ_sN, vJ_sL, vN_sI, vN_sJ, vN_sN, vN_sL, vL_sI, vL_sJ, vL_sN, vL_sL, vI_tI, vI_tJ, vI_tN, vI_tL, vJ_tI, vJ_tJ, vJ_tN, vJ_tL, vN_tI, vN_tJ, vN_tN, vN_tL, vL_tI, vL_tJ, vL_tN, vL_tL, vI_sP, vJ_sP, vN_sP, vL_sP, vP_sI, vP_sJ, vP_sN, vP_sL, vP_sP, vP_tI, vP_tJ, vP_tN, vP_tL, Nat.reduceEqDiff, false_and, true_and, if_false, if_true, and_self, and_true, reduceIte, Nat.succ_ne_self, Nat.reduceEqDiff, Nat.reduceDiv, Nat.reduceMul, Nat.reduceAdd, false_and, and_false, true_and, and_true, and_self, if_false, if_true, reduceIte, reduceCtorEq, ne_eq, not_false_eq_true] <;> (first | (split <;> rfl) | rfl | congr)

theorem wm_QTIMES {T σ : z_St} {A : w_A} (h : w_M T σ A) (i : Nat) (x : Int32) : w_M T (wI σ 54528016 0 i x) (sI A 15 i x) := by
  obtain ⟨hT, hA, hB, hC, hD, hG, hH, hI, hJ, hK, hL, hM, hN⟩ := h
  refine ⟨m_T_wI hT (z_isM_yes _ rfl), hA, ?_, hC, hD, hG, hH, hI, hJ, hK, hL, hM, hN⟩
  · unfold m_B at hB ⊢
    refine ⟨?_, ?_, ?_, ?_, ?_, ?_, ?_, ?_, ?_, ?_, ?_, ?_, ?_, ?_, ?_, ?_, ?_, ?_, ?_⟩ <;> (try intro j) <;> simp only [hB, gI_wI, gI_wJ, gI_wR, gJ_wI, gJ_wJ, gJ_wR, gR_wI, gR_wJ, gR_wR, vI_sI, vI_sJ, vI_sN, vI_sL, vJ_sI, vJ_sJ, vJ_sN, vJ_sL, vN_sI, vN_sJ, vN_sN, vN_sL, vL_sI, vL_sJ, vL_sN, vL_sL, vI_tI, vI_tJ, vI_tN, vI_tL, vJ_tI, vJ_tJ, vJ_tN, vJ_tL, vN_tI, vN_tJ, vN_tN, vN_tL, vL_tI, vL_tJ, vL_tN, vL_tL, vI_sP, vJ_sP, vN_sP, vL_sP, vP_sI, vP_sJ, vP_sN, vP_sL, vP_sP, vP_tI, vP_tJ, vP_tN, vP_tL, Nat.reduceEqDiff, false_and, true_and, if_false, if_true, and_self, and_true, reduceIte, Nat.succ_ne_self, Nat.reduceEqDiff, Nat.reduceDiv, Nat.reduceMul, Nat.reduceAdd, false_and, and_false, true_and, and_true, and_self, if_false, if_true, reduceIte, reduceCtorEq, ne_eq, not_false_eq_true] <;> (first | (split <;> rfl) | rfl | congr)

theorem wm_QHOP {T σ : z_St} {A : w_A} (h : w_M T σ A) (i : Nat) (x : Int32) : w_M T (wI σ 55576592 0 i x) (sI A 16 i x) := by
  obtain ⟨hT, hA, hB, hC, hD, hG, hH, hI, hJ, hK, hL, hM, hN⟩ := h
  refine ⟨m_T_wI hT (z_isM_yes _ rfl), hA, ?_, hC, hD, hG, hH, hI, hJ, hK, hL, hM, hN⟩
  · unfold m_B at hB ⊢
    refine ⟨?_, ?_, ?_, ?_, ?_, ?_, ?_, ?_, ?_, ?_, ?_, ?_, ?_, ?_, ?_, ?_, ?_, ?_, ?_⟩ <;> (try intro j) <;> simp only [hB, gI_wI, gI_wJ, gI_wR, gJ_wI, gJ_wJ, gJ_wR, gR_wI, gR_wJ, gR_wR, vI_sI, vI_sJ, vI_sN, vI_sL, vJ_sI, vJ_sJ, vJ_sN, vJ_sL, vN_sI, vN_sJ, vN_sN, vN_sL, vL_sI, vL_sJ, vL_sN, vL_sL, vI_tI, vI_tJ, vI_tN, vI_tL, vJ_tI, vJ_tJ, vJ_tN, vJ_tL, vN_tI, vN_tJ, vN_tN, vN_tL, vL_tI, vL_tJ, vL_tN, vL_tL, vI_sP, vJ_sP, vN_sP, vL_sP, vP_sI, vP_sJ, vP_sN, vP_sL, vP_sP, vP_tI, vP_tJ, vP_tN, vP_tL, Nat.reduceEqDiff, false_and, true_and, if_false, if_true, and_self, and_true, reduceIte, Nat.succ_ne_self, Nat.reduceEqDiff, Nat.reduceDiv, Nat.reduceMul, Nat.reduceAdd, false_and, and_false, true_and, and_true, and_self, if_false, if_true, reduceIte, reduceCtorEq, ne_eq, not_false_eq_true] <;> (first | (split <;> rfl) | rfl | congr)

theorem wm_QEND {T σ : z_St} {A : w_A} (h : w_M T σ A) (i : Nat) (x : Int32) : w_M T (wI σ 56625168 0 i x) (sI A 17 i x) := by
  obtain ⟨hT, hA, hB, hC, hD, hG, hH, hI, hJ, hK, hL, hM, hN⟩ := h
  refine ⟨m_T_wI hT (z_isM_yes _ rfl), hA, ?_, hC, hD, hG, hH, hI, hJ, hK, hL, hM, hN⟩
  · unfold m_B at hB ⊢
    refine ⟨?_, ?_, ?_, ?_, ?_, ?_, ?_, ?_, ?_, ?_, ?_, ?_, ?_, ?_, ?_, ?_, ?_, ?_, ?_⟩ <;> (try intro j) <;> simp only [hB, gI_wI, gI_wJ, gI_wR, gJ_wI, gJ_wJ, gJ_wR, gR_wI, gR_wJ, gR_wR, vI_sI, vI_sJ, vI_sN, vI_sL, vJ_sI, vJ_sJ, vJ_sN, vJ_sL, vN_sI, vN_sJ, vN_sN, vN_sL, vL_sI, vL_sJ, vL_sN, vL_sL, vI_tI, vI_tJ, vI_tN, vI_tL, vJ_tI, vJ_tJ, vJ_tN, vJ_tL, vN_tI, vN_tJ, vN_tN, vN_tL, vL_tI, vL_tJ, vL_tN, vL_tL, vI_sP, vJ_sP, vN_sP, vL_sP, vP_sI, vP_sJ, vP_sN, vP_sL, vP_sP, vP_tI, vP_tJ, vP_tN, vP_tL, Nat.reduceEqDiff, false_and, true_and, if_false, if_true, and_self, and_true, reduceIte, Nat.succ_ne_self, Nat.reduceEqDiff, Nat.reduceDiv, Nat.reduceMul, Nat.reduceAdd, false_and, and_false, true_and, and_true, and_self, if_false, if_true, reduceIte, reduceCtorEq, ne_eq, not_false_eq_true] <;> (first | (split <;> rfl) | rfl | congr)

theorem wm_ENOUGH {T σ : z_St} {A : w_A} (h : w_M T σ A) (x : Int32) : w_M T (wI σ 8 91 0 x) (sI A 19 0 x) := by
  obtain ⟨hT, hA, hB, hC, hD, hG, hH, hI, hJ, hK, hL, hM, hN⟩ := h
  refine ⟨m_T_wI hT (z_isM_yes _ rfl), hA, ?_, hC, hD, hG, hH, hI, hJ, hK, hL, hM, hN⟩
  · unfold m_B at hB ⊢
    refine ⟨?_, ?_, ?_, ?_, ?_, ?_, ?_, ?_, ?_, ?_, ?_, ?_, ?_, ?_, ?_, ?_, ?_, ?_, ?_⟩ <;> (try intro j) <;> simp only [hB, gI_wI, gI_wJ, gI_wR, gJ_wI, gJ_wJ, gJ_wR, gR_wI, gR_wJ, gR_wR, vI_sI, vI_sJ, vI_sN, vI_sL, vJ_sI, vJ_sJ, vJ_sN, vJ_sL, vN_sI, vN_sJ, vN_sN, vN_sL, vL_sI, vL_sJ, vL_sN, vL_sL, vI_tI, vI_tJ, vI_tN, vI_tL, vJ_tI, vJ_tJ, vJ_tN, vJ_tL, vN_tI, vN_tJ, vN_tN, vN_tL, vL_tI, vL_tJ, vL_tN, vL_tL, vI_sP, vJ_sP, vN_sP, vL_sP, vP_sI, vP_sJ, vP_sN, vP_sL, vP_sP, vP_tI, vP_tJ, vP_tN, vP_tL, Nat.reduceEqDiff, false_and, true_and, if_false, if_true, and_self, and_true, reduceIte, Nat.succ_ne_self, Nat.reduceEqDiff, Nat.reduceDiv, Nat.reduceMul, Nat.reduceAdd, false_and, and_false, true_and, and_true, and_self, if_false, if_true, reduceIte, reduceCtorEq, ne_eq, not_false_eq_true] <;> (first | (split <;> rfl) | rfl | congr)

theorem wm_PEERS {T σ : z_St} {A : w_A} (h : w_M T σ A) (x : Nat) : w_M T (wI σ 8 7 0 (Int32.ofNat (x))) (sN A 0 0 x) := by
  obtain ⟨hT, hA, hB, hC, hD, hG, hH, hI, hJ, hK, hL, hM, hN⟩ := h
  refine ⟨m_T_wI hT (z_isM_yes _ rfl), hA, hB, ?_, hD, hG, hH, hI, hJ, hK, hL, hM, hN⟩
  · unfold m_C at hC ⊢
    refine ⟨?_, ?_, ?_, ?_, ?_, ?_, ?_, ?_, ?_, ?_, ?_, ?_, ?_, ?_, ?_⟩ <;> (try intro j) <;> simp only [hC, gI_wI, gI_wJ, gI_wR, gJ_wI, gJ_wJ, gJ_wR, gR_wI, gR_wJ, gR_wR, vI_sI, vI_sJ, vI_sN, vI_sL, vJ_sI, vJ_sJ, vJ_sN, vJ_sL, vN_sI, vN_sJ, vN_sN, vN_sL, vL_sI, vL_sJ, vL_sN, vL_sL, vI_tI, vI_tJ, vI_tN, vI_tL, vJ_tI, vJ_tJ, vJ_tN, vJ_tL, vN_tI, vN_tJ, vN_tN, vN_tL, vL_tI, vL_tJ, vL_tN, vL_tL, vI_sP, vJ_sP, vN_sP, vL_sP, vP_sI, vP_sJ, vP_sN, vP_sL, vP_sP, vP_tI, vP_tJ, vP_tN, vP_tL, Nat.reduceEqDiff, false_and, true_and, if_false, if_true, and_self, and_true, reduceIte, Nat.succ_ne_self, Nat.reduceEqDiff, Nat.reduceDiv, Nat.reduceMul, Nat.reduceAdd, false_and, and_false, true_and, and_true, and_self, if_false, if_true, reduceIte, reduceCtorEq, ne_eq, not_false_eq_true] <;> (first | (split <;> rfl) | rfl | congr)

theorem wm_ACCS {T σ : z_St} {A : w_A} (h : w_M T σ A) (x : Nat) : w_M T (wI σ 8 35 0 (Int32.ofNat (x))) (sN A 1 0 x) := by
  obtain ⟨hT, hA, hB, hC, hD, hG, hH, hI, hJ, hK, hL, hM, hN⟩ := h
  refine ⟨m_T_wI hT (z_isM_yes _ rfl), hA, hB, ?_, hD, hG, hH, hI, hJ, hK, hL, hM, hN⟩
  · unfold m_C at hC ⊢
    refine ⟨?_, ?_, ?_, ?_, ?_, ?_, ?_, ?_, ?_, ?_, ?_, ?_, ?_, ?_, ?_⟩ <;> (try intro j) <;> simp only [hC, gI_wI, gI_wJ, gI_wR, gJ_wI, gJ_wJ, gJ_wR, gR_wI, gR_wJ, gR_wR, vI_sI, vI_sJ, vI_sN, vI_sL, vJ_sI, vJ_sJ, vJ_sN, vJ_sL, vN_sI, vN_sJ, vN_sN, vN_sL, vL_sI, vL_sJ, vL_sN, vL_sL, vI_tI, vI_tJ, vI_tN, vI_tL, vJ_tI, vJ_tJ, vJ_tN, vJ_tL, vN_tI, vN_tJ, vN_tN, vN_tL, vL_tI, vL_tJ, vL_tN, vL_tL, vI_sP, vJ_sP, vN_sP, vL_sP, vP_sI, vP_sJ, vP_sN, vP_sL, vP_sP, vP_tI, vP_tJ, vP_tN, vP_tL, Nat.reduceEqDiff, false_and, true_and, if_false, if_true, and_self, and_true, reduceIte, Nat.succ_ne_self, Nat.reduceEqDiff, Nat.reduceDiv, Nat.reduceMul, Nat.reduceAdd, false_and, and_false, true_and, and_true, and_self, if_false, if_true, reduceIte, reduceCtorEq, ne_eq, not_false_eq_true] <;> (first | (split <;> rfl) | rfl | congr)

theorem wm_ASKS {T σ : z_St} {A : w_A} (h : w_M T σ A) (x : Nat) : w_M T (wI σ 8 49 0 (Int32.ofNat (x))) (sN A 3 0 x) := by
  obtain ⟨hT, hA, hB, hC, hD, hG, hH, hI, hJ, hK, hL, hM, hN⟩ := h
  refine ⟨m_T_wI hT (z_isM_yes _ rfl), hA, hB, ?_, hD, hG, hH, hI, hJ, hK, hL, hM, hN⟩
  · unfold m_C at hC ⊢
    refine ⟨?_, ?_, ?_, ?_, ?_, ?_, ?_, ?_, ?_, ?_, ?_, ?_, ?_, ?_, ?_⟩ <;> (try intro j) <;> simp only [hC, gI_wI, gI_wJ, gI_wR, gJ_wI, gJ_wJ, gJ_wR, gR_wI, gR_wJ, gR_wR, vI_sI, vI_sJ, vI_sN, vI_sL, vJ_sI, vJ_sJ, vJ_sN, vJ_sL, vN_sI, vN_sJ, vN_sN, vN_sL, vL_sI, vL_sJ, vL_sN, vL_sL, vI_tI, vI_tJ, vI_tN, vI_tL, vJ_tI, vJ_tJ, vJ_tN, vJ_tL, vN_tI, vN_tJ, vN_tN, vN_tL, vL_tI, vL_tJ, vL_tN, vL_tL, vI_sP, vJ_sP, vN_sP, vL_sP, vP_sI, vP_sJ, vP_sN, vP_sL, vP_sP, vP_tI, vP_tJ, vP_tN, vP_tL, Nat.reduceEqDiff, false_and, true_and, if_false, if_true, and_self, and_true, reduceIte, Nat.succ_ne_self, Nat.reduceEqDiff, Nat.reduceDiv, Nat.reduceMul, Nat.reduceAdd, false_and, and_false, true_and, and_true, and_self, if_false, if_true, reduceIte, reduceCtorEq, ne_eq, not_false_eq_true] <;> (first | (split <;> rfl) | rfl | congr)

theorem wm_NOW {T σ : z_St} {A : w_A} (h : w_M T σ A) (x : Nat) : w_M T (wI σ 8 1 0 (Int32.ofNat (x))) (sN A 5 0 x) := by
  obtain ⟨hT, hA, hB, hC, hD, hG, hH, hI, hJ, hK, hL, hM, hN⟩ := h
  refine ⟨m_T_wI hT (z_isM_yes _ rfl), hA, hB, ?_, hD, hG, hH, hI, hJ, hK, hL, hM, hN⟩
  · unfold m_C at hC ⊢
    refine ⟨?_, ?_, ?_, ?_, ?_, ?_, ?_, ?_, ?_, ?_, ?_, ?_, ?_, ?_, ?_⟩ <;> (try intro j) <;> simp only [hC, gI_wI, gI_wJ, gI_wR, gJ_wI, gJ_wJ, gJ_wR, gR_wI, gR_wJ, gR_wR, vI_sI, vI_sJ, vI_sN, vI_sL, vJ_sI, vJ_sJ, vJ_sN, vJ_sL, vN_sI, vN_sJ, vN_sN, vN_sL, vL_sI, vL_sJ, vL_sN, vL_sL, vI_tI, vI_tJ, vI_tN, vI_tL, vJ_tI, vJ_tJ, vJ_tN, vJ_tL, vN_tI, vN_tJ, vN_tN, vN_tL, vL_tI, vL_tJ, vL_tN, vL_tL, vI_sP, vJ_sP, vN_sP, vL_sP, vP_sI, vP_sJ, vP_sN, vP_sL, vP_sP, vP_tI, vP_tJ, vP_tN, vP_tL, Nat.reduceEqDiff, false_and, true_and, if_false, if_true, and_self, and_true, reduceIte, Nat.succ_ne_self, Nat.reduceEqDiff, Nat.reduceDiv, Nat.reduceMul, Nat.reduceAdd, false_and, and_false, true_and, and_true, and_self, if_false, if_true, reduceIte, reduceCtorEq, ne_eq, not_false_eq_true] <;> (first | (split <;> rfl) | rfl | congr)

theorem wm_HOPS {T σ : z_St} {A : w_A} (h : w_M T σ A) (x : Nat) : w_M T (wI σ 8 34 0 (Int32.ofNat (x + 1))) (sN A 6 0 x) := by
  obtain ⟨hT, hA, hB, hC, hD, hG, hH, hI, hJ, hK, hL, hM, hN⟩ := h
  refine ⟨m_T_wI hT (z_isM_yes _ rfl), hA, hB, ?_, hD, hG, hH, hI, hJ, hK, hL, hM, hN⟩
  · unfold m_C at hC ⊢
    refine ⟨?_, ?_, ?_, ?_, ?_, ?_, ?_, ?_, ?_, ?_, ?_, ?_, ?_, ?_, ?_⟩ <;> (try intro j) <;> simp only [hC, gI_wI, gI_wJ, gI_wR, gJ_wI, gJ_wJ, gJ_wR, gR_wI, gR_wJ, gR_wR, vI_sI, vI_sJ, vI_sN, vI_sL, vJ_sI, vJ_sJ, vJ_sN, vJ_sL, vN_sI, vN_sJ, vN_sN, vN_sL, vL_sI, vL_sJ, vL_sN, vL_sL, vI_tI, vI_tJ, vI_tN, vI_tL, vJ_tI, vJ_tJ, vJ_tN, vJ_tL, vN_tI, vN_tJ, vN_tN, vN_tL, vL_tI, vL_tJ, vL_tN, vL_tL, vI_sP, vJ_sP, vN_sP, vL_sP, vP_sI, vP_sJ, vP_sN, vP_sL, vP_sP, vP_tI, vP_tJ, vP_tN, vP_tL, Nat.reduceEqDiff, false_and, true_and, if_false, if_true, and_self, and_true, reduceIte, Nat.succ_ne_self, Nat.reduceEqDiff, Nat.reduceDiv, Nat.reduceMul, Nat.reduceAdd, false_and, and_false, true_and, and_true, and_self, if_false, if_true, reduceIte, reduceCtorEq, ne_eq, not_false_eq_true] <;> (first | (split <;> rfl) | rfl | congr)

theorem wm_LIM {T σ : z_St} {A : w_A} (h : w_M T σ A) (i : Nat) (x : Nat) : w_M T (wI σ 13631632 0 i (Int32.ofNat (x))) (sN A 7 i x) := by
  obtain ⟨hT, hA, hB, hC, hD, hG, hH, hI, hJ, hK, hL, hM, hN⟩ := h
  refine ⟨m_T_wI hT (z_isM_yes _ rfl), hA, hB, ?_, hD, hG, hH, hI, hJ, hK, hL, hM, hN⟩
  · unfold m_C at hC ⊢
    refine ⟨?_, ?_, ?_, ?_, ?_, ?_, ?_, ?_, ?_, ?_, ?_, ?_, ?_, ?_, ?_⟩ <;> (try intro j) <;> simp only [hC, gI_wI, gI_wJ, gI_wR, gJ_wI, gJ_wJ, gJ_wR, gR_wI, gR_wJ, gR_wR, vI_sI, vI_sJ, vI_sN, vI_sL, vJ_sI, vJ_sJ, vJ_sN, vJ_sL, vN_sI, vN_sJ, vN_sN, vN_sL, vL_sI, vL_sJ, vL_sN, vL_sL, vI_tI, vI_tJ, vI_tN, vI_tL, vJ_tI, vJ_tJ, vJ_tN, vJ_tL, vN_tI, vN_tJ, vN_tN, vN_tL, vL_tI, vL_tJ, vL_tN, vL_tL, vI_sP, vJ_sP, vN_sP, vL_sP, vP_sI, vP_sJ, vP_sN, vP_sL, vP_sP, vP_tI, vP_tJ, vP_tN, vP_tL, Nat.reduceEqDiff, false_and, true_and, if_false, if_true, and_self, and_true, reduceIte, Nat.succ_ne_self, Nat.reduceEqDiff, Nat.reduceDiv, Nat.reduceMul, Nat.reduceAdd, false_and, and_false, true_and, and_true, and_self, if_false, if_true, reduceIte, reduceCtorEq, ne_eq, not_false_eq_true] <;> (first | (split <;> rfl) | rfl | congr)

theorem wm_DUE {T σ : z_St} {A : w_A} (h : w_M T σ A) (i : Nat) (x : Nat) : w_M T (wI σ 18874512 0 i (Int32.ofNat (x))) (sN A 8 i x) := by
  obtain ⟨hT, hA, hB, hC, hD, hG, hH, hI, hJ, hK, hL, hM, hN⟩ := h
  refine ⟨m_T_wI hT (z_isM_yes _ rfl), hA, hB, ?_, hD, hG, hH, hI, hJ, hK, hL, hM, hN⟩
  · unfold m_C at hC ⊢
    refine ⟨?_, ?_, ?_, ?_, ?_, ?_, ?_, ?_, ?_, ?_, ?_, ?_, ?_, ?_, ?_⟩ <;> (try intro j) <;> simp only [hC, gI_wI, gI_wJ, gI_wR, gJ_wI, gJ_wJ, gJ_wR, gR_wI, gR_wJ, gR_wR, vI_sI, vI_sJ, vI_sN, vI_sL, vJ_sI, vJ_sJ, vJ_sN, vJ_sL, vN_sI, vN_sJ, vN_sN, vN_sL, vL_sI, vL_sJ, vL_sN, vL_sL, vI_tI, vI_tJ, vI_tN, vI_tL, vJ_tI, vJ_tJ, vJ_tN, vJ_tL, vN_tI, vN_tJ, vN_tN, vN_tL, vL_tI, vL_tJ, vL_tN, vL_tL, vI_sP, vJ_sP, vN_sP, vL_sP, vP_sI, vP_sJ, vP_sN, vP_sL, vP_sP, vP_tI, vP_tJ, vP_tN, vP_tL, Nat.reduceEqDiff, false_and, true_and, if_false, if_true, and_self, and_true, reduceIte, Nat.succ_ne_self, Nat.reduceEqDiff, Nat.reduceDiv, Nat.reduceMul, Nat.reduceAdd, false_and, and_false, true_and, and_true, and_self, if_false, if_true, reduceIte, reduceCtorEq, ne_eq, not_false_eq_true] <;> (first | (split <;> rfl) | rfl | congr)

theorem wm_OWN {T σ : z_St} {A : w_A} (h : w_M T σ A) (i : Nat) (x : Nat) : w_M T (wI σ 14680208 0 i (Int32.ofNat (x))) (sN A 9 i x) := by
  obtain ⟨hT, hA, hB, hC, hD, hG, hH, hI, hJ, hK, hL, hM, hN⟩ := h
  refine ⟨m_T_wI hT (z_isM_yes _ rfl), hA, hB, ?_, hD, hG, hH, hI, hJ, hK, hL, hM, hN⟩
  · unfold m_C at hC ⊢
    refine ⟨?_, ?_, ?_, ?_, ?_, ?_, ?_, ?_, ?_, ?_, ?_, ?_, ?_, ?_, ?_⟩ <;> (try intro j) <;> simp only [hC, gI_wI, gI_wJ, gI_wR, gJ_wI, gJ_wJ, gJ_wR, gR_wI, gR_wJ, gR_wR, vI_sI, vI_sJ, vI_sN, vI_sL, vJ_sI, vJ_sJ, vJ_sN, vJ_sL, vN_sI, vN_sJ, vN_sN, vN_sL, vL_sI, vL_sJ, vL_sN, vL_sL, vI_tI, vI_tJ, vI_tN, vI_tL, vJ_tI, vJ_tJ, vJ_tN, vJ_tL, vN_tI, vN_tJ, vN_tN, vN_tL, vL_tI, vL_tJ, vL_tN, vL_tL, vI_sP, vJ_sP, vN_sP, vL_sP, vP_sI, vP_sJ, vP_sN, vP_sL, vP_sP, vP_tI, vP_tJ, vP_tN, vP_tL, Nat.reduceEqDiff, false_and, true_and, if_false, if_true, and_self, and_true, reduceIte, Nat.succ_ne_self, Nat.reduceEqDiff, Nat.reduceDiv, Nat.reduceMul, Nat.reduceAdd, false_and, and_false, true_and, and_true, and_self, if_false, if_true, reduceIte, reduceCtorEq, ne_eq, not_false_eq_true] <;> (first | (split <;> rfl) | rfl | congr)

theorem wm_CAME {T σ : z_St} {A : w_A} (h : w_M T σ A) (i : Nat) (x : Nat) : w_M T (wI σ 15728784 0 i (Int32.ofNat (x))) (sN A 10 i x) := by
  obtain ⟨hT, hA, hB, hC, hD, hG, hH, hI, hJ, hK, hL, hM, hN⟩ := h
  refine ⟨m_T_wI hT (z_isM_yes _ rfl), hA, hB, ?_, hD, hG, hH, hI, hJ, hK, hL, hM, hN⟩
  · unfold m_C at hC ⊢
    refine ⟨?_, ?_, ?_, ?_, ?_, ?_, ?_, ?_, ?_, ?_, ?_, ?_, ?_, ?_, ?_⟩ <;> (try intro j) <;> simp only [hC, gI_wI, gI_wJ, gI_wR, gJ_wI, gJ_wJ, gJ_wR, gR_wI, gR_wJ, gR_wR, vI_sI, vI_sJ, vI_sN, vI_sL, vJ_sI, vJ_sJ, vJ_sN, vJ_sL, vN_sI, vN_sJ, vN_sN, vN_sL, vL_sI, vL_sJ, vL_sN, vL_sL, vI_tI, vI_tJ, vI_tN, vI_tL, vJ_tI, vJ_tJ, vJ_tN, vJ_tL, vN_tI, vN_tJ, vN_tN, vN_tL, vL_tI, vL_tJ, vL_tN, vL_tL, vI_sP, vJ_sP, vN_sP, vL_sP, vP_sI, vP_sJ, vP_sN, vP_sL, vP_sP, vP_tI, vP_tJ, vP_tN, vP_tL, Nat.reduceEqDiff, false_and, true_and, if_false, if_true, and_self, and_true, reduceIte, Nat.succ_ne_self, Nat.reduceEqDiff, Nat.reduceDiv, Nat.reduceMul, Nat.reduceAdd, false_and, and_false, true_and, and_true, and_self, if_false, if_true, reduceIte, reduceCtorEq, ne_eq, not_false_eq_true] <;> (first | (split <;> rfl) | rfl | congr)

theorem wm_CPEER {T σ : z_St} {A : w_A} (h : w_M T σ A) (i : Nat) (x : Nat) : w_M T (wI σ 29360432 0 i (Int32.ofNat (x))) (sN A 11 i x) := by
  obtain ⟨hT, hA, hB, hC, hD, hG, hH, hI, hJ, hK, hL, hM, hN⟩ := h
  refine ⟨m_T_wI hT (z_isM_yes _ rfl), hA, hB, ?_, hD, hG, hH, hI, hJ, hK, hL, hM, hN⟩
  · unfold m_C at hC ⊢
    refine ⟨?_, ?_, ?_, ?_, ?_, ?_, ?_, ?_, ?_, ?_, ?_, ?_, ?_, ?_, ?_⟩ <;> (try intro j) <;> simp only [hC, gI_wI, gI_wJ, gI_wR, gJ_wI, gJ_wJ, gJ_wR, gR_wI, gR_wJ, gR_wR, vI_sI, vI_sJ, vI_sN, vI_sL, vJ_sI, vJ_sJ, vJ_sN, vJ_sL, vN_sI, vN_sJ, vN_sN, vN_sL, vL_sI, vL_sJ, vL_sN, vL_sL, vI_tI, vI_tJ, vI_tN, vI_tL, vJ_tI, vJ_tJ, vJ_tN, vJ_tL, vN_tI, vN_tJ, vN_tN, vN_tL, vL_tI, vL_tJ, vL_tN, vL_tL, vI_sP, vJ_sP, vN_sP, vL_sP, vP_sI, vP_sJ, vP_sN, vP_sL, vP_sP, vP_tI, vP_tJ, vP_tN, vP_tL, Nat.reduceEqDiff, false_and, true_and, if_false, if_true, and_self, and_true, reduceIte, Nat.succ_ne_self, Nat.reduceEqDiff, Nat.reduceDiv, Nat.reduceMul, Nat.reduceAdd, false_and, and_false, true_and, and_true, and_self, if_false, if_true, reduceIte, reduceCtorEq, ne_eq, not_false_eq_true] <;> (first | (split <;> rfl) | rfl | congr)

theorem wm_QPEER {T σ : z_St} {A : w_A} (h : w_M T σ A) (i : Nat) (x : Nat) : w_M T (wI σ 53479440 0 i (Int32.ofNat (x - 1))) (sN A 12 i x) := by
  obtain ⟨hT, hA, hB, hC, hD, hG, hH, hI, hJ, hK, hL, hM, hN⟩ := h
  refine ⟨m_T_wI hT (z_isM_yes _ rfl), hA, hB, ?_, hD, hG, hH, hI, hJ, hK, hL, hM, hN⟩
  · unfold m_C at hC ⊢
    refine ⟨?_, ?_, ?_, ?_, ?_, ?_, ?_, ?_, ?_, ?_, ?_, ?_, ?_, ?_, ?_⟩ <;> (try intro j) <;> simp only [hC, gI_wI, gI_wJ, gI_wR, gJ_wI, gJ_wJ, gJ_wR, gR_wI, gR_wJ, gR_wR, vI_sI, vI_sJ, vI_sN, vI_sL, vJ_sI, vJ_sJ, vJ_sN, vJ_sL, vN_sI, vN_sJ, vN_sN, vN_sL, vL_sI, vL_sJ, vL_sN, vL_sL, vI_tI, vI_tJ, vI_tN, vI_tL, vJ_tI, vJ_tJ, vJ_tN, vJ_tL, vN_tI, vN_tJ, vN_tN, vN_tL, vL_tI, vL_tJ, vL_tN, vL_tL, vI_sP, vJ_sP, vN_sP, vL_sP, vP_sI, vP_sJ, vP_sN, vP_sL, vP_sP, vP_tI, vP_tJ, vP_tN, vP_tL, Nat.reduceEqDiff, false_and, true_and, if_false, if_true, and_self, and_true, reduceIte, Nat.succ_ne_self, Nat.reduceEqDiff, Nat.reduceDiv, Nat.reduceMul, Nat.reduceAdd, false_and, and_false, true_and, and_true, and_self, if_false, if_true, reduceIte, reduceCtorEq, ne_eq, not_false_eq_true] <;> (first | (split <;> rfl) | rfl | congr)

theorem wm_INL {T σ : z_St} {A : w_A} (h : w_M T σ A) (i : Nat) (x : Nat) : w_M T (wI σ 32506160 0 i (Int32.ofNat (x))) (sN A 14 i x) := by
  obtain ⟨hT, hA, hB, hC, hD, hG, hH, hI, hJ, hK, hL, hM, hN⟩ := h
  refine ⟨m_T_wI hT (z_isM_yes _ rfl), hA, hB, ?_, hD, hG, hH, hI, hJ, hK, hL, hM, hN⟩
  · unfold m_C at hC ⊢
    refine ⟨?_, ?_, ?_, ?_, ?_, ?_, ?_, ?_, ?_, ?_, ?_, ?_, ?_, ?_, ?_⟩ <;> (try intro j) <;> simp only [hC, gI_wI, gI_wJ, gI_wR, gJ_wI, gJ_wJ, gJ_wR, gR_wI, gR_wJ, gR_wR, vI_sI, vI_sJ, vI_sN, vI_sL, vJ_sI, vJ_sJ, vJ_sN, vJ_sL, vN_sI, vN_sJ, vN_sN, vN_sL, vL_sI, vL_sJ, vL_sN, vL_sL, vI_tI, vI_tJ, vI_tN, vI_tL, vJ_tI, vJ_tJ, vJ_tN, vJ_tL, vN_tI, vN_tJ, vN_tN, vN_tL, vL_tI, vL_tJ, vL_tN, vL_tL, vI_sP, vJ_sP, vN_sP, vL_sP, vP_sI, vP_sJ, vP_sN, vP_sL, vP_sP, vP_tI, vP_tJ, vP_tN, vP_tL, Nat.reduceEqDiff, false_and, true_and, if_false, if_true, and_self, and_true, reduceIte, Nat.succ_ne_self, Nat.reduceEqDiff, Nat.reduceDiv, Nat.reduceMul, Nat.reduceAdd, false_and, and_false, true_and, and_true, and_self, if_false, if_true, reduceIte, reduceCtorEq, ne_eq, not_false_eq_true] <;> (first | (split <;> rfl) | rfl | congr)

theorem wm_QCONN {T σ : z_St} {A : w_A} (h : w_M T σ A) (i : Nat) (x : Nat) : w_M T (wI σ 57673744 0 i (Int32.ofNat (x))) (sN A 19 i x) := by
  obtain ⟨hT, hA, hB, hC, hD, hG, hH, hI, hJ, hK, hL, hM, hN⟩ := h
  refine ⟨m_T_wI hT (z_isM_yes _ rfl), hA, hB, ?_, hD, hG, hH, hI, hJ, hK, hL, hM, hN⟩
  · unfold m_C at hC ⊢
    refine ⟨?_, ?_, ?_, ?_, ?_, ?_, ?_, ?_, ?_, ?_, ?_, ?_, ?_, ?_, ?_⟩ <;> (try intro j) <;> simp only [hC, gI_wI, gI_wJ, gI_wR, gJ_wI, gJ_wJ, gJ_wR, gR_wI, gR_wJ, gR_wR, vI_sI, vI_sJ, vI_sN, vI_sL, vJ_sI, vJ_sJ, vJ_sN, vJ_sL, vN_sI, vN_sJ, vN_sN, vN_sL, vL_sI, vL_sJ, vL_sN, vL_sL, vI_tI, vI_tJ, vI_tN, vI_tL, vJ_tI, vJ_tJ, vJ_tN, vJ_tL, vN_tI, vN_tJ, vN_tN, vN_tL, vL_tI, vL_tJ, vL_tN, vL_tL, vI_sP, vJ_sP, vN_sP, vL_sP, vP_sI, vP_sJ, vP_sN, vP_sL, vP_sP, vP_tI, vP_tJ, vP_tN, vP_tL, Nat.reduceEqDiff, false_and, true_and, if_false, if_true, and_self, and_true, reduceIte, Nat.succ_ne_self, Nat.reduceEqDiff, Nat.reduceDiv, Nat.reduceMul, Nat.reduceAdd, false_and, and_false, true_and, and_true, and_self, if_false, if_true, reduceIte, reduceCtorEq, ne_eq, not_false_eq_true] <;> (first | (split <;> rfl) | rfl | congr)

theorem wm_ANUM {T σ : z_St} {A : w_A} (h : w_M T σ A) (i : Nat) (x : Int64) : w_M T (wJ σ 36700691 0 i x) (sJ A 0 i x) := by
  obtain ⟨hT, hA, hB, hC, hD, hG, hH, hI, hJ, hK, hL, hM, hN⟩ := h
  refine ⟨m_T_wJ hT (z_isM_yes _ rfl), hA, hB, hC, ?_, hG, hH, hI, hJ, hK, hL, hM, hN⟩
  · unfold m_D at hD ⊢
    refine ⟨?_, ?_, ?_, ?_, ?_⟩ <;> (try intro j) <;> simp only [hD, gI_wI, gI_wJ, gI_wR, gJ_wI, gJ_wJ, gJ_wR, gR_wI, gR_wJ, gR_wR, vI_sI, vI_sJ, vI_sN, vI_sL, vJ_sI, vJ_sJ, vJ_sN, vJ_sL, vN_sI, vN_sJ, vN_sN, vN_sL, vL_sI, vL_sJ, vL_sN, vL_sL, vI_tI, vI_tJ, vI_tN, vI_tL, vJ_tI, vJ_tJ, vJ_tN, vJ_tL, vN_tI, vN_tJ, vN_tN, vN_tL, vL_tI, vL_tJ, vL_tN, vL_tL, vI_sP, vJ_sP, vN_sP, vL_sP, vP_sI, vP_sJ, vP_sN, vP_sL, vP_sP, vP_tI, vP_tJ, vP_tN, vP_tL, Nat.reduceEqDiff, false_and, true_and, if_false, if_true, and_self, and_true, reduceIte, Nat.succ_ne_self, Nat.reduceEqDiff, Nat.reduceDiv, Nat.reduceMul, Nat.reduceAdd, false_and, and_false, true_and, and_true, and_self, if_false, if_true, reduceIte, reduceCtorEq, ne_eq, not_false_eq_true] <;> (first | (split <;> rfl) | rfl | congr)

theorem wm_ABAL {T σ : z_St} {A : w_A} (h : w_M T σ A) (i : Nat) (x : Int64) : w_M T (wJ σ 37749267 0 i x) (sJ A 1 i x) := by
  obtain ⟨hT, hA, hB, hC, hD, hG, hH, hI, hJ, hK, hL, hM, hN⟩ := h
  refine ⟨m_T_wJ hT (z_isM_yes _ rfl), hA, hB, hC, ?_, hG, hH, hI, hJ, hK, hL, hM, hN⟩
  · unfold m_D at hD ⊢
    refine ⟨?_, ?_, ?_, ?_, ?_⟩ <;> (try intro j) <;> simp only [hD, gI_wI, gI_wJ, gI_wR, gJ_wI, gJ_wJ, gJ_wR, gR_wI, gR_wJ, gR_wR, vI_sI, vI_sJ, vI_sN, vI_sL, vJ_sI, vJ_sJ, vJ_sN, vJ_sL, vN_sI, vN_sJ, vN_sN, vN_sL, vL_sI, vL_sJ, vL_sN, vL_sL, vI_tI, vI_tJ, vI_tN, vI_tL, vJ_tI, vJ_tJ, vJ_tN, vJ_tL, vN_tI, vN_tJ, vN_tN, vN_tL, vL_tI, vL_tJ, vL_tN, vL_tL, vI_sP, vJ_sP, vN_sP, vL_sP, vP_sI, vP_sJ, vP_sN, vP_sL, vP_sP, vP_tI, vP_tJ, vP_tN, vP_tL, Nat.reduceEqDiff, false_and, true_and, if_false, if_true, and_self, and_true, reduceIte, Nat.succ_ne_self, Nat.reduceEqDiff, Nat.reduceDiv, Nat.reduceMul, Nat.reduceAdd, false_and, and_false, true_and, and_true, and_self, if_false, if_true, reduceIte, reduceCtorEq, ne_eq, not_false_eq_true] <;> (first | (split <;> rfl) | rfl | congr)

theorem wm_ARES {T σ : z_St} {A : w_A} (h : w_M T σ A) (i : Nat) (x : Int64) : w_M T (wJ σ 38797843 0 i x) (sJ A 2 i x) := by
  obtain ⟨hT, hA, hB, hC, hD, hG, hH, hI, hJ, hK, hL, hM, hN⟩ := h
  refine ⟨m_T_wJ hT (z_isM_yes _ rfl), hA, hB, hC, ?_, hG, hH, hI, hJ, hK, hL, hM, hN⟩
  · unfold m_D at hD ⊢
    refine ⟨?_, ?_, ?_, ?_, ?_⟩ <;> (try intro j) <;> simp only [hD, gI_wI, gI_wJ, gI_wR, gJ_wI, gJ_wJ, gJ_wR, gR_wI, gR_wJ, gR_wR, vI_sI, vI_sJ, vI_sN, vI_sL, vJ_sI, vJ_sJ, vJ_sN, vJ_sL, vN_sI, vN_sJ, vN_sN, vN_sL, vL_sI, vL_sJ, vL_sN, vL_sL, vI_tI, vI_tJ, vI_tN, vI_tL, vJ_tI, vJ_tJ, vJ_tN, vJ_tL, vN_tI, vN_tJ, vN_tN, vN_tL, vL_tI, vL_tJ, vL_tN, vL_tL, vI_sP, vJ_sP, vN_sP, vL_sP, vP_sI, vP_sJ, vP_sN, vP_sL, vP_sP, vP_tI, vP_tJ, vP_tN, vP_tL, Nat.reduceEqDiff, false_and, true_and, if_false, if_true, and_self, and_true, reduceIte, Nat.succ_ne_self, Nat.reduceEqDiff, Nat.reduceDiv, Nat.reduceMul, Nat.reduceAdd, false_and, and_false, true_and, and_true, and_self, if_false, if_true, reduceIte, reduceCtorEq, ne_eq, not_false_eq_true] <;> (first | (split <;> rfl) | rfl | congr)

theorem wm_ACHG {T σ : z_St} {A : w_A} (h : w_M T σ A) (i : Nat) (x : Int64) : w_M T (wJ σ 39846419 0 i x) (sJ A 3 i x) := by
  obtain ⟨hT, hA, hB, hC, hD, hG, hH, hI, hJ, hK, hL, hM, hN⟩ := h
  refine ⟨m_T_wJ hT (z_isM_yes _ rfl), hA, hB, hC, ?_, hG, hH, hI, hJ, hK, hL, hM, hN⟩
  · unfold m_D at hD ⊢
    refine ⟨?_, ?_, ?_, ?_, ?_⟩ <;> (try intro j) <;> simp only [hD, gI_wI, gI_wJ, gI_wR, gJ_wI, gJ_wJ, gJ_wR, gR_wI, gR_wJ, gR_wR, vI_sI, vI_sJ, vI_sN, vI_sL, vJ_sI, vJ_sJ, vJ_sN, vJ_sL, vN_sI, vN_sJ, vN_sN, vN_sL, vL_sI, vL_sJ, vL_sN, vL_sL, vI_tI, vI_tJ, vI_tN, vI_tL, vJ_tI, vJ_tJ, vJ_tN, vJ_tL, vN_tI, vN_tJ, vN_tN, vN_tL, vL_tI, vL_tJ, vL_tN, vL_tL, vI_sP, vJ_sP, vN_sP, vL_sP, vP_sI, vP_sJ, vP_sN, vP_sL, vP_sP, vP_tI, vP_tJ, vP_tN, vP_tL, Nat.reduceEqDiff, false_and, true_and, if_false, if_true, and_self, and_true, reduceIte, Nat.succ_ne_self, Nat.reduceEqDiff, Nat.reduceDiv, Nat.reduceMul, Nat.reduceAdd, false_and, and_false, true_and, and_true, and_self, if_false, if_true, reduceIte, reduceCtorEq, ne_eq, not_false_eq_true] <;> (first | (split <;> rfl) | rfl | congr)

theorem wm_QRES {T σ : z_St} {A : w_A} (h : w_M T σ A) (i : Nat) (x : Int64) : w_M T (wJ σ 52430867 0 i x) (sJ A 4 i x) := by
  obtain ⟨hT, hA, hB, hC, hD, hG, hH, hI, hJ, hK, hL, hM, hN⟩ := h
  refine ⟨m_T_wJ hT (z_isM_yes _ rfl), hA, hB, hC, ?_, hG, hH, hI, hJ, hK, hL, hM, hN⟩
  · unfold m_D at hD ⊢
    refine ⟨?_, ?_, ?_, ?_, ?_⟩ <;> (try intro j) <;> simp only [hD, gI_wI, gI_wJ, gI_wR, gJ_wI, gJ_wJ, gJ_wR, gR_wI, gR_wJ, gR_wR, vI_sI, vI_sJ, vI_sN, vI_sL, vJ_sI, vJ_sJ, vJ_sN, vJ_sL, vN_sI, vN_sJ, vN_sN, vN_sL, vL_sI, vL_sJ, vL_sN, vL_sL, vI_tI, vI_tJ, vI_tN, vI_tL, vJ_tI, vJ_tJ, vJ_tN, vJ_tL, vN_tI, vN_tJ, vN_tN, vN_tL, vL_tI, vL_tJ, vL_tN, vL_tL, vI_sP, vJ_sP, vN_sP, vL_sP, vP_sI, vP_sJ, vP_sN, vP_sL, vP_sP, vP_tI, vP_tJ, vP_tN, vP_tL, Nat.reduceEqDiff, false_and, true_and, if_false, if_true, and_self, and_true, reduceIte, Nat.succ_ne_self, Nat.reduceEqDiff, Nat.reduceDiv, Nat.reduceMul, Nat.reduceAdd, false_and, and_false, true_and, and_true, and_self, if_false, if_true, reduceIte, reduceCtorEq, ne_eq, not_false_eq_true] <;> (first | (split <;> rfl) | rfl | congr)

theorem wm_code {T σ : z_St} {A : w_A} (h : w_M T σ A) (x : Int32) : w_M T (wI σ 8 0 0 x) (A) := by
  obtain ⟨hT, hA, hB, hC, hD, hG, hH, hI, hJ, hK, hL, hM, hN⟩ := h
  refine ⟨m_T_wI hT (z_isM_yes _ rfl), hA, hB, hC, hD, hG, hH, hI, hJ, hK, hL, hM, hN⟩

