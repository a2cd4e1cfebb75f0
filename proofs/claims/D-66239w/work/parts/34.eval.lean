/-! PART 34 (src 34.eval.src): what evaluates in a run -/
theorem dr_some (q : z_Ad) (f : z_Ad → Option z_R) : dr (some q) f = f q := rfl
theorem gd_true [Decidable True] (x : Option z_R) : gd True x = x := if_pos trivial
theorem gd_of {c : Prop} [Decidable c] (h : c) (x : Option z_R) : gd c x = x := if_pos h
theorem asI_mk (x : Int32) (f : Int32 → Option z_R) : asI (.inl x) f = f x := rfl
theorem asJ_mk (x : Int64) (f : Int64 → Option z_R) : asJ (.inr (.inl x)) f = f x := rfl
theorem asR_mk (x : Option z_Ad) (f : Option z_Ad → Option z_R) : asR (.inr (.inr x)) f = f x := rfl
/-! numbers as ints -/
theorem io_toInt {a : Nat} (h : a < 2147483648) : (Int32.ofNat a).toInt = a := Int32.toInt_ofNat_of_lt (by omega)
theorem io_nat {a : Nat} (h : a < 2147483648) : (Int32.ofNat a).toNatClampNeg = a := Int32.toNatClampNeg_ofNat_of_lt (by omega)
theorem io_lt {a b : Nat} (h : a < 2147483648) (h2 : b < 2147483648) : (Int32.ofNat a < Int32.ofNat b) = (a < b) := by
  rw [Int32.lt_iff_toInt_lt, io_toInt h, io_toInt h2]
  exact propext ⟨fun x => by omega, fun x => by omega⟩
theorem io_le {a b : Nat} (h : a < 2147483648) (h2 : b < 2147483648) : (Int32.ofNat a ≤ Int32.ofNat b) = (a ≤ b) := by
  rw [Int32.le_iff_toInt_le, io_toInt h, io_toInt h2]
  exact propext ⟨fun x => by omega, fun x => by omega⟩
theorem io_inj {a b : Nat} (h : a < 2147483648) (h2 : b < 2147483648) : (Int32.ofNat a = Int32.ofNat b) = (a = b) := by
  refine propext ⟨fun e => ?_, fun e => by rw [e]⟩
  have e1 := congrArg Int32.toInt e
  rw [io_toInt h, io_toInt h2] at e1
  omega
theorem io_add (a b : Nat) : Int32.ofNat a + Int32.ofNat b = Int32.ofNat (a + b) := (Int32.ofNat_add a b).symm
theorem io_mul (a b : Nat) : Int32.ofNat a * Int32.ofNat b = Int32.ofNat (a * b) := (Int32.ofNat_mul a b).symm
theorem io_sub {a b : Nat} (h : b ≤ a) : Int32.ofNat a - Int32.ofNat b = Int32.ofNat (a - b) := by
  have e : Int32.ofNat (a - b) + Int32.ofNat b = Int32.ofNat a := by rw [io_add, Nat.sub_add_cancel h]
  rw [← e]
  exact Int32.add_sub_cancel _ _
theorem io_l (n : Nat) : (no_index (OfNat.ofNat n) : Int32) = Int32.ofNat (OfNat.ofNat n) := rfl
theorem io_add_l (a n : Nat) : Int32.ofNat a + (no_index (OfNat.ofNat n) : Int32) = Int32.ofNat (a + OfNat.ofNat n) := io_add a n
theorem io_ladd (a n : Nat) : (no_index (OfNat.ofNat n) : Int32) + Int32.ofNat a = Int32.ofNat (OfNat.ofNat n + a) := io_add n a
theorem io_mul_l (a n : Nat) : Int32.ofNat a * (no_index (OfNat.ofNat n) : Int32) = Int32.ofNat (a * OfNat.ofNat n) := io_mul a n
theorem io_lmul (a n : Nat) : (no_index (OfNat.ofNat n) : Int32) * Int32.ofNat a = Int32.ofNat (OfNat.ofNat n * a) := io_mul n a
theorem io_sub_l {a n : Nat} (h : OfNat.ofNat n ≤ a) : Int32.ofNat a - (no_index (OfNat.ofNat n) : Int32) = Int32.ofNat (a - OfNat.ofNat n) := io_sub h
theorem io_lsub {a n : Nat} (h : a ≤ OfNat.ofNat n) : (no_index (OfNat.ofNat n) : Int32) - Int32.ofNat a = Int32.ofNat (OfNat.ofNat n - a) := io_sub h
theorem io_pred {a : Nat} (h : 1 ≤ a) : Int32.ofNat a + (-1) = Int32.ofNat (a - 1) := by
  have e : Int32.ofNat (a - 1) + 1 = Int32.ofNat a := by rw [show (1 : Int32) = Int32.ofNat 1 from rfl, io_add, Nat.sub_add_cancel h]
  rw [← e, Int32.add_assoc, show (1 : Int32) + -1 = 0 from rfl, Int32.add_zero]
theorem io_lt_l {a n : Nat} (h : a < 2147483648) (h2 : OfNat.ofNat n < 2147483648) : (Int32.ofNat a < (no_index (OfNat.ofNat n) : Int32)) = (a < OfNat.ofNat n) := io_lt h h2
theorem io_llt {a n : Nat} (h : a < 2147483648) (h2 : OfNat.ofNat n < 2147483648) : ((no_index (OfNat.ofNat n) : Int32) < Int32.ofNat a) = (OfNat.ofNat n < a) := io_lt h2 h
theorem io_le_l {a n : Nat} (h : a < 2147483648) (h2 : OfNat.ofNat n < 2147483648) : (Int32.ofNat a ≤ (no_index (OfNat.ofNat n) : Int32)) = (a ≤ OfNat.ofNat n) := io_le h h2
theorem io_lle {a n : Nat} (h : a < 2147483648) (h2 : OfNat.ofNat n < 2147483648) : ((no_index (OfNat.ofNat n) : Int32) ≤ Int32.ofNat a) = (OfNat.ofNat n ≤ a) := io_le h2 h
theorem io_eq_l {a n : Nat} (h : a < 2147483648) (h2 : OfNat.ofNat n < 2147483648) : (Int32.ofNat a = (no_index (OfNat.ofNat n) : Int32)) = (a = OfNat.ofNat n) := io_inj h h2
theorem io_leq {a n : Nat} (h : a < 2147483648) (h2 : OfNat.ofNat n < 2147483648) : ((no_index (OfNat.ofNat n) : Int32) = Int32.ofNat a) = (OfNat.ofNat n = a) := io_inj h2 h
theorem io_div {a b : Nat} (h : a < 2147483648) (h2 : b < 2147483648) : Int32.ofNat a / Int32.ofNat b = Int32.ofNat (a / b) := by
  apply Int32.toInt_inj.mp
  have h3 : a / b ≤ a := Nat.div_le_self _ _
  rw [Int32.toInt_div, io_toInt h, io_toInt h2, io_toInt (by omega)]
  have e : (a : Int).tdiv (b : Int) = ((a / b : Nat) : Int) := by
    rw [Int.tdiv_eq_ediv_of_nonneg (by omega)]
    rfl
  rw [e]
  clear e
  generalize a / b = q at *
  exact Int.bmod_eq_of_le (by omega) (by omega)
theorem io_mod {a b : Nat} (h : a < 2147483648) (h2 : b < 2147483648) : Int32.ofNat a - Int32.ofNat a / Int32.ofNat b * Int32.ofNat b = Int32.ofNat (a % b) := by
  rw [io_div h h2, io_mul, io_sub (Nat.div_mul_le_self a b)]
  congr 1
  have := Nat.div_add_mod a b
  rw [Nat.mul_comm] at this
  omega
theorem io_mod_l {a n : Nat} (h : a < 2147483648) (h2 : OfNat.ofNat n < 2147483648) : Int32.ofNat a - Int32.ofNat a / (no_index (OfNat.ofNat n) : Int32) * (no_index (OfNat.ofNat n) : Int32) = Int32.ofNat (a % OfNat.ofNat n) := io_mod h h2
theorem io_div_l {a n : Nat} (h : a < 2147483648) (h2 : OfNat.ofNat n < 2147483648) : Int32.ofNat a / (no_index (OfNat.ofNat n) : Int32) = Int32.ofNat (a / OfNat.ofNat n) := io_div h h2
theorem nat_mod (a n : Nat) : a - a / n * n = a % n := by
  have := Nat.div_add_mod a n
  rw [Nat.mul_comm] at this
  omega
theorem zin_io {k n : Nat} (h : k < n) (h2 : n ≤ 2147483648) : zin (Int32.ofNat k) n := by
  intro e
  rcases e with e | e
  · rw [Int32.lt_iff_toInt_lt, io_toInt (by omega)] at e
    have : (0 : Int32).toInt = 0 := rfl
    omega
  · rw [io_nat (by omega)] at e
    omega
theorem gd_zin {k n : Nat} (h : k < n) (h2 : n ≤ 2147483648) (x : Option z_R) : gd (zin (Int32.ofNat k) n) x = x := gd_of (zin_io h h2) x
theorem gd_zinl {k n : Nat} (h : OfNat.ofNat k < n) (h2 : n ≤ 2147483648) (x : Option z_R) : gd (zin (no_index (OfNat.ofNat k) : Int32) n) x = x := gd_of (zin_io h h2) x
theorem gd_zink {i : Int32} {k n : Nat} (e : i = Int32.ofNat k) (h : k < n) (h2 : n ≤ 2147483648) (x : Option z_R) : gd (zin i n) x = x := by
  subst e
  exact gd_zin h h2 x
theorem nat_l {n : Nat} (h : OfNat.ofNat n < 2147483648) : (no_index (OfNat.ofNat n) : Int32).toNatClampNeg = OfNat.ofNat n := io_nat h
/-! truth values as ints -/
theorem b2i_01 (c : Prop) [Decidable c] : (b2i c = 0 ∨ b2i c = 1) = True := by unfold b2i; split <;> simp
theorem b2i_0 (c : Prop) [Decidable c] : (b2i c = 0) = ¬ c := by unfold b2i; split <;> simp [*]
theorem b2i_1 (c : Prop) [Decidable c] : (b2i c = 1) = c := by unfold b2i; split <;> simp [*]
theorem b2i_t {c : Prop} [Decidable c] (h : c) : b2i c = 1 := if_pos h
theorem b2i_f {c : Prop} [Decidable c] (h : ¬ c) : b2i c = 0 := if_neg h
theorem wp_swX {T s : z_St} {A : w_A} {f : z_St → Option z_R} {Q : z_St → Option z_V → Prop} (h : w_X T s A) (k : ∀ σ, w_X T σ A → wp (f σ) Q) : wp (sw s f) Q := k s h
theorem wp_swM {T s : z_St} {A : w_A} {f : z_St → Option z_R} {Q : z_St → Option z_V → Prop} (h : w_M T s A) (k : ∀ σ, w_M T σ A → wp (f σ) Q) : wp (sw s f) Q := k s h
theorem X_cv {T σ : z_St} {A B : w_A} (h : w_X T σ A) (e : A = B) : w_X T σ B := e ▸ h
theorem M_cv {T σ : z_St} {A B : w_A} (h : w_M T σ A) (e : A = B) : w_M T σ B := e ▸ h
theorem z_one_0 (k : Nat) : z_one k 0 = none := rfl
theorem z_one_s {k x : Nat} (h : ¬ x = 0) : z_one k x = some (k, x) := if_neg h
theorem z_per_0 : z_per 0 = none := rfl
theorem z_per_s (x : Nat) : z_per (x + 1) = some (9, x) := rfl
theorem z_per_p {x : Nat} (h : ¬ x = 0) : z_per x = some (9, x - 1) := if_neg h
theorem z_one_n {k x : Nat} : (z_one k x = none) = (x = 0) := by unfold z_one; split <;> simp [*]
theorem z_per_n {x : Nat} : (z_per x = none) = (x = 0) := by unfold z_per; split <;> simp [*]
theorem z_dyn_one (k x : Nat) (h : k < 12) : z_dyn (z_one k x) = true := by unfold z_one; split <;> simp [z_dyn, h]
theorem z_dyn_per (x : Nat) : z_dyn (z_per x) = true := by unfold z_per; split <;> simp [z_dyn]
theorem z_dyn_some (k x : Nat) (h : k < 12) : z_dyn (some (k, x)) = true := by simp [z_dyn, h]
theorem ll_eq {a n : Nat} (h : OfNat.ofNat a < 2147483648) (h2 : OfNat.ofNat n < 2147483648) : ((no_index (OfNat.ofNat a) : Int32) = (no_index (OfNat.ofNat n) : Int32)) = ((OfNat.ofNat a : Nat) = OfNat.ofNat n) := io_inj h h2
theorem nar0 : vp_nar .boolean 0 = 0 := by decide
theorem nar1 : vp_nar .boolean 1 = 1 := by decide
theorem nar_b (c : Prop) [Decidable c] : vp_nar .boolean (b2i c) = b2i c := by unfold b2i; split <;> decide
theorem aty_1048852 : aTy 1048852 = 20 := by decide
theorem alen_1048852 : aLen 1048852 = 8 := by decide
theorem aty_2097301 : aTy 2097301 = 21 := by decide
theorem alen_2097301 : aLen 2097301 = 4 := by decide
theorem aty_3146262 : aTy 3146262 = 22 := by decide
theorem alen_3146262 : aLen 3146262 = 16 := by decide
theorem aty_4194839 : aTy 4194839 = 23 := by decide
theorem alen_4194839 : aLen 4194839 = 16 := by decide
theorem aty_5244952 : aTy 5244952 = 24 := by decide
theorem alen_5244952 : aLen 5244952 = 64 := by decide
theorem aty_6292505 : aTy 6292505 = 25 := by decide
theorem alen_6292505 : aLen 6292505 = 32 := by decide
theorem aty_7341329 : aTy 7341329 = 17 := by decide
theorem alen_7341329 : aLen 7341329 = 40 := by decide
theorem aty_8389905 : aTy 8389905 = 17 := by decide
theorem alen_8389905 : aLen 8389905 = 40 := by decide
theorem aty_9442321 : aTy 9442321 = 17 := by decide
theorem alen_9442321 : aLen 9442321 = 160 := by decide
theorem aty_10485904 : aTy 10485904 = 16 := by decide
theorem alen_10485904 : aLen 10485904 = 4 := by decide
theorem aty_11534482 : aTy 11534482 = 18 := by decide
theorem alen_11534482 : aLen 11534482 = 4 := by decide
theorem aty_12583056 : aTy 12583056 = 16 := by decide
theorem alen_12583056 : aLen 12583056 = 4 := by decide
theorem aty_13631632 : aTy 13631632 = 16 := by decide
theorem alen_13631632 : aLen 13631632 = 4 := by decide
theorem aty_14680208 : aTy 14680208 = 16 := by decide
theorem alen_14680208 : aLen 14680208 = 4 := by decide
theorem aty_15728784 : aTy 15728784 = 16 := by decide
theorem alen_15728784 : aLen 15728784 = 4 := by decide
theorem aty_16777360 : aTy 16777360 = 16 := by decide
theorem alen_16777360 : aLen 16777360 = 4 := by decide
theorem aty_17825938 : aTy 17825938 = 18 := by decide
theorem alen_17825938 : aLen 17825938 = 4 := by decide
theorem aty_18874512 : aTy 18874512 = 16 := by decide
theorem alen_18874512 : aLen 18874512 = 4 := by decide
theorem aty_19923088 : aTy 19923088 = 16 := by decide
theorem alen_19923088 : aLen 19923088 = 4 := by decide
theorem aty_20971664 : aTy 20971664 = 16 := by decide
theorem alen_20971664 : aLen 20971664 = 4 := by decide
theorem aty_22020240 : aTy 22020240 = 16 := by decide
theorem alen_22020240 : aLen 22020240 = 4 := by decide
theorem aty_23068816 : aTy 23068816 = 16 := by decide
theorem alen_23068816 : aLen 23068816 = 4 := by decide
theorem aty_24117392 : aTy 24117392 = 16 := by decide
theorem alen_24117392 : aLen 24117392 = 4 := by decide
theorem aty_25165968 : aTy 25165968 = 16 := by decide
theorem alen_25165968 : aLen 25165968 = 4 := by decide
theorem aty_26214544 : aTy 26214544 = 16 := by decide
theorem alen_26214544 : aLen 26214544 = 4 := by decide
theorem aty_27263120 : aTy 27263120 = 16 := by decide
theorem alen_27263120 : aLen 27263120 = 4 := by decide
theorem aty_28311856 : aTy 28311856 = 16 := by decide
theorem alen_28311856 : aLen 28311856 = 9 := by decide
theorem aty_29360432 : aTy 29360432 = 16 := by decide
theorem alen_29360432 : aLen 29360432 = 9 := by decide
theorem aty_30409008 : aTy 30409008 = 16 := by decide
theorem alen_30409008 : aLen 30409008 = 9 := by decide
theorem aty_31630097 : aTy 31630097 = 17 := by decide
theorem alen_31630097 : aLen 31630097 = 5400 := by decide
theorem aty_32506160 : aTy 32506160 = 16 := by decide
theorem alen_32506160 : aLen 32506160 = 9 := by decide
theorem aty_34130449 : aTy 34130449 = 17 := by decide
theorem alen_34130449 : aLen 34130449 = 18000 := by decide
theorem aty_34603312 : aTy 34603312 = 16 := by decide
theorem alen_34603312 : aLen 34603312 = 9 := by decide
theorem aty_35651888 : aTy 35651888 = 16 := by decide
theorem alen_35651888 : aLen 35651888 = 9 := by decide
theorem aty_36700691 : aTy 36700691 = 19 := by decide
theorem alen_36700691 : aLen 36700691 = 16 := by decide
theorem aty_37749267 : aTy 37749267 = 19 := by decide
theorem alen_37749267 : aLen 37749267 = 16 := by decide
theorem aty_38797843 : aTy 38797843 = 19 := by decide
theorem alen_38797843 : aLen 38797843 = 16 := by decide
theorem aty_39846419 : aTy 39846419 = 19 := by decide
theorem alen_39846419 : aLen 39846419 = 16 := by decide
theorem aty_40915473 : aTy 40915473 = 17 := by decide
theorem alen_40915473 : aLen 40915473 = 656 := by decide
theorem aty_41964049 : aTy 41964049 = 17 := by decide
theorem alen_41964049 : aLen 41964049 = 656 := by decide
theorem aty_43012625 : aTy 43012625 = 17 := by decide
theorem alen_43012625 : aLen 43012625 = 656 := by decide
theorem aty_44040720 : aTy 44040720 = 16 := by decide
theorem alen_44040720 : aLen 44040720 = 16 := by decide
theorem aty_45089299 : aTy 45089299 = 19 := by decide
theorem alen_45089299 : aLen 45089299 = 16 := by decide
theorem aty_46137875 : aTy 46137875 = 19 := by decide
theorem alen_46137875 : aLen 46137875 = 16 := by decide
theorem aty_47186448 : aTy 47186448 = 16 := by decide
theorem alen_47186448 : aLen 47186448 = 16 := by decide
theorem aty_48235024 : aTy 48235024 = 16 := by decide
theorem alen_48235024 : aLen 48235024 = 16 := by decide
theorem aty_49367057 : aTy 49367057 = 17 := by decide
theorem alen_49367057 : aLen 49367057 = 2624 := by decide
theorem aty_50415633 : aTy 50415633 = 17 := by decide
theorem alen_50415633 : aLen 50415633 = 2624 := by decide
theorem aty_51464209 : aTy 51464209 = 17 := by decide
theorem alen_51464209 : aLen 51464209 = 2624 := by decide
theorem aty_52430867 : aTy 52430867 = 19 := by decide
theorem alen_52430867 : aLen 52430867 = 64 := by decide
theorem aty_53479440 : aTy 53479440 = 16 := by decide
theorem alen_53479440 : aLen 53479440 = 64 := by decide
theorem aty_54528016 : aTy 54528016 = 16 := by decide
theorem alen_54528016 : aLen 54528016 = 64 := by decide
theorem aty_55576592 : aTy 55576592 = 16 := by decide
theorem alen_55576592 : aLen 55576592 = 64 := by decide
theorem aty_56625168 : aTy 56625168 = 16 := by decide
theorem alen_56625168 : aLen 56625168 = 64 := by decide
theorem aty_57673744 : aTy 57673744 = 16 := by decide
theorem alen_57673744 : aLen 57673744 = 64 := by decide
theorem aty_59058193 : aTy 59058193 = 17 := by decide
theorem alen_59058193 : aLen 59058193 = 10560 := by decide
theorem aty_59769904 : aTy 59769904 = 16 := by decide
theorem alen_59769904 : aLen 59769904 = 33 := by decide
theorem aty_60860721 : aTy 60860721 = 17 := by decide
theorem alen_60860721 : aLen 60860721 = 1353 := by decide
theorem aty_61867056 : aTy 61867056 = 16 := by decide
theorem alen_61867056 : aLen 61867056 = 33 := by decide
theorem aty_62915632 : aTy 62915632 = 16 := by decide
theorem alen_62915632 : aLen 62915632 = 33 := by decide
theorem aty_63985553 : aTy 63985553 = 17 := by decide
theorem alen_63985553 : aLen 63985553 = 700 := by decide
theorem aty_65012112 : aTy 65012112 = 16 := by decide
theorem alen_65012112 : aLen 65012112 = 12 := by decide
theorem aty_66060688 : aTy 66060688 = 16 := by decide
theorem alen_66060688 : aLen 66060688 = 12 := by decide
theorem aty_67109264 : aTy 67109264 = 16 := by decide
theorem alen_67109264 : aLen 67109264 = 12 := by decide
theorem aty_68157840 : aTy 68157840 = 16 := by decide
theorem alen_68157840 : aLen 68157840 = 12 := by decide
theorem aty_69206192 : aTy 69206192 = 16 := by decide
theorem alen_69206192 : aLen 69206192 = 5 := by decide
theorem aty_70254768 : aTy 70254768 = 16 := by decide
theorem alen_70254768 : aLen 70254768 = 5 := by decide
theorem aty_71303344 : aTy 71303344 = 16 := by decide
theorem alen_71303344 : aLen 71303344 = 5 := by decide
theorem aty_72361361 : aTy 72361361 = 17 := by decide
theorem alen_72361361 : aLen 72361361 = 300 := by decide
theorem aty_73419537 : aTy 73419537 = 17 := by decide
theorem alen_73419537 : aLen 73419537 = 600 := by decide
theorem aty_74512913 : aTy 74512913 = 17 := by decide
theorem alen_74512913 : aLen 74512913 = 2000 := by decide
theorem aty_75497658 : aTy 75497658 = 26 := by decide
theorem alen_75497658 : aLen 75497658 = 5 := by decide
theorem aty_76548624 : aTy 76548624 = 16 := by decide
theorem alen_76548624 : aLen 76548624 = 80 := by decide
theorem aty_77597200 : aTy 77597200 = 16 := by decide
theorem alen_77597200 : aLen 77597200 = 80 := by decide
theorem aty_78645776 : aTy 78645776 = 16 := by decide
theorem alen_78645776 : aLen 78645776 = 80 := by decide
theorem aty_79714193 : aTy 79714193 = 17 := by decide
theorem alen_79714193 : aLen 79714193 = 700 := by decide
theorem aty_80741649 : aTy 80741649 = 17 := by decide
theorem alen_80741649 : aLen 80741649 = 40 := by decide
theorem ev_st : (type_of% @aty_1048852) ∧ (type_of% @alen_1048852) ∧ (type_of% @aty_2097301) ∧ (type_of% @alen_2097301) ∧ (type_of% @aty_3146262) ∧ (type_of% @alen_3146262) ∧ (type_of% @aty_4194839) ∧ (type_of% @alen_4194839) ∧ (type_of% @aty_5244952) ∧ (type_of% @alen_5244952) ∧ (type_of% @aty_6292505) ∧ (type_of% @alen_6292505) ∧ (type_of% @aty_7341329) ∧ (type_of% @alen_7341329) ∧ (type_of% @aty_8389905) ∧ (type_of% @alen_8389905) ∧ (type_of% @aty_9442321) ∧ (type_of% @alen_9442321) ∧ (type_of% @aty_10485904) ∧ (type_of% @alen_10485904) ∧ (type_of% @aty_11534482) ∧ (type_of% @alen_11534482) ∧ (type_of% @aty_12583056) ∧ (type_of% @alen_12583056) ∧ (type_of% @aty_13631632) ∧ (type_of% @alen_13631632) ∧ (type_of% @aty_14680208) ∧ (type_of% @alen_14680208) ∧ (type_of% @aty_15728784) ∧ (type_of% @alen_15728784) ∧ (type_of% @aty_16777360) ∧ (type_of% @alen_16777360) ∧ (type_of% @aty_17825938) ∧ (type_of% @alen_17825938) ∧ (type_of% @aty_18874512) ∧ (type_of% @alen_18874512) ∧ (type_of% @aty_19923088) ∧ (type_of% @alen_19923088) ∧ (type_of% @aty_20971664) ∧ (type_of% @alen_20971664) ∧ (type_of% @aty_22020240) ∧ (type_of% @alen_22020240) ∧ (type_of% @aty_23068816) ∧ (type_of% @alen_23068816) ∧ (type_of% @aty_24117392) ∧ (type_of% @alen_24117392) ∧ (type_of% @aty_25165968) ∧ (type_of% @alen_25165968) ∧ (type_of% @aty_26214544) ∧ (type_of% @alen_26214544) ∧ (type_of% @aty_27263120) ∧ (type_of% @alen_27263120) ∧ (type_of% @aty_28311856) ∧ (type_of% @alen_28311856) ∧ (type_of% @aty_29360432) ∧ (type_of% @alen_29360432) ∧ (type_of% @aty_30409008) ∧ (type_of% @alen_30409008) ∧ (type_of% @aty_31630097) ∧ (type_of% @alen_31630097) ∧ (type_of% @aty_32506160) ∧ (type_of% @alen_32506160) ∧ (type_of% @aty_34130449) ∧ (type_of% @alen_34130449) ∧ (type_of% @aty_34603312) ∧ (type_of% @alen_34603312) ∧ (type_of% @aty_35651888) ∧ (type_of% @alen_35651888) ∧ (type_of% @aty_36700691) ∧ (type_of% @alen_36700691) ∧ (type_of% @aty_37749267) ∧ (type_of% @alen_37749267) ∧ (type_of% @aty_38797843) ∧ (type_of% @alen_38797843) ∧ (type_of% @aty_39846419) ∧ (type_of% @alen_39846419) ∧ (type_of% @aty_40915473) ∧ (type_of% @alen_40915473) ∧ (type_of% @aty_41964049) ∧ (type_of% @alen_41964049) ∧ (type_of% @aty_43012625) ∧ (type_of% @alen_43012625) ∧ (type_of% @aty_44040720) ∧ (type_of% @alen_44040720) ∧ (type_of% @aty_45089299) ∧ (type_of% @alen_45089299) ∧ (type_of% @aty_46137875) ∧ (type_of% @alen_46137875) ∧ (type_of% @aty_47186448) ∧ (type_of% @alen_47186448) ∧ (type_of% @aty_48235024) ∧ (type_of% @alen_48235024) ∧ (type_of% @aty_49367057) ∧ (type_of% @alen_49367057) ∧ (type_of% @aty_50415633) ∧ (type_of% @alen_50415633) ∧ (type_of% @aty_51464209) ∧ (type_of% @alen_51464209) ∧ (type_of% @aty_52430867) ∧ (type_of% @alen_52430867) ∧ (type_of% @aty_53479440) ∧ (type_of% @alen_53479440) ∧ (type_of% @aty_54528016) ∧ (type_of% @alen_54528016) ∧ (type_of% @aty_55576592) ∧ (type_of% @alen_55576592) ∧ (type_of% @aty_56625168) ∧ (type_of% @alen_56625168) ∧ (type_of% @aty_57673744) ∧ (type_of% @alen_57673744) ∧ (type_of% @aty_59058193) ∧ (type_of% @alen_59058193) ∧ (type_of% @aty_59769904) ∧ (type_of% @alen_59769904) ∧ (type_of% @aty_60860721) ∧ (type_of% @alen_60860721) ∧ (type_of% @aty_61867056) ∧ (type_of% @alen_61867056) ∧ (type_of% @aty_62915632) ∧ (type_of% @alen_62915632) ∧ (type_of% @aty_63985553) ∧ (type_of% @alen_63985553) ∧ (type_of% @aty_65012112) ∧ (type_of% @alen_65012112) ∧ (type_of% @aty_66060688) ∧ (type_of% @alen_66060688) ∧ (type_of% @aty_67109264) ∧ (type_of% @alen_67109264) ∧ (type_of% @aty_68157840) ∧ (type_of% @alen_68157840) ∧ (type_of% @aty_69206192) ∧ (type_of% @alen_69206192) ∧ (type_of% @aty_70254768) ∧ (type_of% @alen_70254768) ∧ (type_of% @aty_71303344) ∧ (type_of% @alen_71303344) ∧ (type_of% @aty_72361361) ∧ (type_of% @alen_72361361) ∧ (type_of% @aty_73419537) ∧ (type_of% @alen_73419537) ∧ (type_of% @aty_74512913) ∧ (type_of% @alen_74512913) ∧ (type_of% @aty_75497658) ∧ (type_of% @alen_75497658) ∧ (type_of% @aty_76548624) ∧ (type_of% @alen_76548624) ∧ (type_of% @aty_77597200) ∧ (type_of% @alen_77597200) ∧ (type_of% @aty_78645776) ∧ (type_of% @alen_78645776) ∧ (type_of% @aty_79714193) ∧ (type_of% @alen_79714193) ∧ (type_of% @aty_80741649) ∧ (type_of% @alen_80741649) :=
  ⟨@aty_1048852, @alen_1048852, @aty_2097301, @alen_2097301, @aty_3146262, @alen_3146262, @aty_4194839, @alen_4194839, @aty_5244952, @alen_5244952, @aty_6292505, @alen_6292505, @aty_7341329, @alen_7341329, @aty_8389905, @alen_8389905, @aty_9442321, @alen_9442321, @aty_10485904, @alen_10485904, @aty_11534482, @alen_11534482, @aty_12583056, @alen_12583056, @aty_13631632, @alen_13631632, @aty_14680208, @alen_14680208, @aty_15728784, @alen_15728784, @aty_16777360, @alen_16777360, @aty_17825938, @alen_17825938, @aty_18874512, @alen_18874512, @aty_19923088, @alen_19923088, @aty_20971664, @alen_20971664, @aty_22020240, @alen_22020240, @aty_23068816, @alen_23068816, @aty_24117392, @alen_24117392, @aty_25165968, @alen_25165968, @aty_26214544, @alen_26214544, @aty_27263120, @alen_27263120, @aty_28311856, @alen_28311856, @aty_29360432, @alen_29360432, @aty_30409008, @alen_30409008, @aty_31630097, @alen_31630097, @aty_32506160, @alen_32506160, @aty_34130449, @alen_34130449, @aty_34603312, @alen_34603312, @aty_35651888, @alen_35651888, @aty_36700691, @alen_36700691, @aty_37749267, @alen_37749267, @aty_38797843, @alen_38797843, @aty_39846419, @alen_39846419, @aty_40915473, @alen_40915473, @aty_41964049, @alen_41964049, @aty_43012625, @alen_43012625, @aty_44040720, @alen_44040720, @aty_45089299, @alen_45089299, @aty_46137875, @alen_46137875, @aty_47186448, @alen_47186448, @aty_48235024, @alen_48235024, @aty_49367057, @alen_49367057, @aty_50415633, @alen_50415633, @aty_51464209, @alen_51464209, @aty_52430867, @alen_52430867, @aty_53479440, @alen_53479440, @aty_54528016, @alen_54528016, @aty_55576592, @alen_55576592, @aty_56625168, @alen_56625168, @aty_57673744, @alen_57673744, @aty_59058193, @alen_59058193, @aty_59769904, @alen_59769904, @aty_60860721, @alen_60860721, @aty_61867056, @alen_61867056, @aty_62915632, @alen_62915632, @aty_63985553, @alen_63985553, @aty_65012112, @alen_65012112, @aty_66060688, @alen_66060688, @aty_67109264, @alen_67109264, @aty_68157840, @alen_68157840, @aty_69206192, @alen_69206192, @aty_70254768, @alen_70254768, @aty_71303344, @alen_71303344, @aty_72361361, @alen_72361361, @aty_73419537, @alen_73419537, @aty_74512913, @alen_74512913, @aty_75497658, @alen_75497658, @aty_76548624, @alen_76548624, @aty_77597200, @alen_77597200, @aty_78645776, @alen_78645776, @aty_79714193, @alen_79714193, @aty_80741649, @alen_80741649⟩
theorem ev_rd : (type_of% @vI_sI) ∧ (type_of% @vI_sJ) ∧ (type_of% @vI_sN) ∧ (type_of% @vI_sL) ∧ (type_of% @vJ_sI) ∧ (type_of% @vJ_sJ) ∧ (type_of% @vJ_sN) ∧ (type_of% @vJ_sL) ∧ (type_of% @vN_sI) ∧ (type_of% @vN_sJ) ∧ (type_of% @vN_sN) ∧ (type_of% @vN_sL) ∧ (type_of% @vL_sI) ∧ (type_of% @vL_sJ) ∧ (type_of% @vL_sN) ∧ (type_of% @vL_sL) ∧ (type_of% @vI_tI) ∧ (type_of% @vI_tJ) ∧ (type_of% @vI_tN) ∧ (type_of% @vI_tL) ∧ (type_of% @vJ_tI) ∧ (type_of% @vJ_tJ) ∧ (type_of% @vJ_tN) ∧ (type_of% @vJ_tL) ∧ (type_of% @vN_tI) ∧ (type_of% @vN_tJ) ∧ (type_of% @vN_tN) ∧ (type_of% @vN_tL) ∧ (type_of% @vL_tI) ∧ (type_of% @vL_tJ) ∧ (type_of% @vL_tN) ∧ (type_of% @vL_tL) ∧ (type_of% @vI_sP) ∧ (type_of% @vJ_sP) ∧ (type_of% @vN_sP) ∧ (type_of% @vL_sP) ∧ (type_of% @vP_sI) ∧ (type_of% @vP_sJ) ∧ (type_of% @vP_sN) ∧ (type_of% @vP_sL) ∧ (type_of% @vP_sP) ∧ (type_of% @vP_tI) ∧ (type_of% @vP_tJ) ∧ (type_of% @vP_tN) ∧ (type_of% @vP_tL) :=
  ⟨@vI_sI, @vI_sJ, @vI_sN, @vI_sL, @vJ_sI, @vJ_sJ, @vJ_sN, @vJ_sL, @vN_sI, @vN_sJ, @vN_sN, @vN_sL, @vL_sI, @vL_sJ, @vL_sN, @vL_sL, @vI_tI, @vI_tJ, @vI_tN, @vI_tL, @vJ_tI, @vJ_tJ, @vJ_tN, @vJ_tL, @vN_tI, @vN_tJ, @vN_tN, @vN_tL, @vL_tI, @vL_tJ, @vL_tN, @vL_tL, @vI_sP, @vJ_sP, @vN_sP, @vL_sP, @vP_sI, @vP_sJ, @vP_sN, @vP_sL, @vP_sP, @vP_tI, @vP_tJ, @vP_tN, @vP_tL⟩
theorem ev_io : (type_of% @io_lt) ∧ (type_of% @io_le) ∧ (type_of% @io_inj) ∧ (type_of% @io_add) ∧ (type_of% @io_mul) ∧ (type_of% @io_sub) ∧ (type_of% @io_nat) ∧ (type_of% @io_add_l) ∧ (type_of% @io_ladd) ∧ (type_of% @io_mul_l) ∧ (type_of% @io_lmul) ∧ (type_of% @io_sub_l) ∧ (type_of% @io_lsub) ∧ (type_of% @io_pred) ∧ (type_of% @io_lt_l) ∧ (type_of% @io_llt) ∧ (type_of% @io_le_l) ∧ (type_of% @io_lle) ∧ (type_of% @io_eq_l) ∧ (type_of% @io_leq) ∧ (type_of% @io_div) ∧ (type_of% @io_mod) ∧ (type_of% @io_mod_l) ∧ (type_of% @io_div_l) ∧ (type_of% @nat_l) ∧ (type_of% @nat_mod) :=
  ⟨@io_lt, @io_le, @io_inj, @io_add, @io_mul, @io_sub, @io_nat, @io_add_l, @io_ladd, @io_mul_l, @io_lmul, @io_sub_l, @io_lsub, @io_pred, @io_lt_l, @io_llt, @io_le_l, @io_lle, @io_eq_l, @io_leq, @io_div, @io_mod, @io_mod_l, @io_div_l, @nat_l, @nat_mod⟩
theorem ev_ev : (type_of% @dr_some) ∧ (type_of% @gd_true) ∧ (type_of% @asI_mk) ∧ (type_of% @asJ_mk) ∧ (type_of% @asR_mk) ∧ (type_of% @gd_zin) ∧ (type_of% @gd_zinl) ∧ (type_of% @b2i_01) ∧ (type_of% @b2i_0) ∧ (type_of% @b2i_1) ∧ (type_of% @z_one_0) ∧ (type_of% @z_per_0) ∧ (type_of% @z_per_s) ∧ (type_of% @z_one_n) ∧ (type_of% @z_per_n) ∧ (type_of% @nar0) ∧ (type_of% @nar1) ∧ (type_of% @nar_b) ∧ (type_of% @ll_eq) ∧ (type_of% @gR_wI) ∧ (type_of% @gR_wJ) ∧ (type_of% @gJ_wI) ∧ (type_of% @gI_wJ) ∧ (type_of% @hR_rI) ∧ (type_of% @hJ_rI) :=
  ⟨@dr_some, @gd_true, @asI_mk, @asJ_mk, @asR_mk, @gd_zin, @gd_zinl, @b2i_01, @b2i_0, @b2i_1, @z_one_0, @z_per_0, @z_per_s, @z_one_n, @z_per_n, @nar0, @nar1, @nar_b, @ll_eq, @gR_wI, @gR_wJ, @gJ_wI, @gI_wJ, @hR_rI, @hJ_rI⟩
theorem ev_or : (type_of% @sI_sI) ∧ (type_of% @sJ_sJ) ∧ (type_of% @sN_sN) ∧ (type_of% @sL_sL) ∧ (type_of% @sP_sP) ∧ (type_of% @sI_or) ∧ (type_of% @sJ_or) ∧ (type_of% @sN_or) ∧ (type_of% @sL_or) ∧ (type_of% @sN_sI_or) ∧ (type_of% @sN_sJ_or) ∧ (type_of% @sN_sL_or) ∧ (type_of% @sI_sJ_or) ∧ (type_of% @sI_sL_or) ∧ (type_of% @sJ_sL_or) ∧ (type_of% @sN_sP_or) ∧ (type_of% @sI_sP_or) ∧ (type_of% @sJ_sP_or) ∧ (type_of% @sL_sP_or) :=
  ⟨@sI_sI, @sJ_sJ, @sN_sN, @sL_sL, @sP_sP, @sI_or, @sJ_or, @sN_or, @sL_or, @sN_sI_or, @sN_sJ_or, @sN_sL_or, @sI_sJ_or, @sI_sL_or, @sJ_sL_or, @sN_sP_or, @sI_sP_or, @sJ_sP_or, @sL_sP_or⟩
theorem fx {T σ : z_St} {A : w_A} (h : w_X T σ A) : (type_of% (rx_p0_0 h)) ∧ (type_of% (rx_p0_1 h)) ∧ (type_of% (rx_p0_2 h)) ∧ (type_of% (rx_p0_3 h)) ∧ (type_of% (rx_p0_4 h)) ∧ (type_of% (rx_p0_5 h)) ∧ (type_of% (rx_p0_6 h)) ∧ (type_of% (rx_p0_7 h)) ∧ (type_of% (rx_p0_9 h)) ∧ (type_of% (rx_p0_11 h)) ∧ (type_of% (rx_p0_13 h)) ∧ (type_of% (rx_p0_15 h)) ∧ (type_of% (rx_p2_0 h)) ∧ (type_of% (rx_p3_0 h)) ∧ (type_of% (rx_p3_8 h)) ∧ (type_of% (rx_p3_9 h)) ∧ (type_of% (rx_p3_10 h)) ∧ (type_of% (rx_p1_0 h)) ∧ (type_of% (rx_p4_4 h)) ∧ (type_of% (rx_p4_6 h)) ∧ (type_of% (rx_p5_0 h)) ∧ (type_of% (rx_p5_1 h)) ∧ (type_of% (rx_p5_2 h)) ∧ (type_of% (rx_p6_0 h)) ∧ (type_of% (rx_p6_1 h)) ∧ (type_of% (rx_p6_2 h)) ∧ (type_of% (rx_p7_0 h)) ∧ (type_of% (rx_p7_3 h)) ∧ (type_of% (rx_p9_1 h)) ∧ (type_of% (rx_ST h)) ∧ (type_of% (rx_STAT h)) ∧ (type_of% (rx_AWAIT h)) ∧ (type_of% (rx_OVER h)) ∧ (type_of% (rx_ANSW h)) ∧ (type_of% (rx_OHOP h)) ∧ (type_of% (rx_WHOP h)) ∧ (type_of% (rx_EHOP h)) ∧ (type_of% (rx_CFL h)) ∧ (type_of% (rx_CHOP h)) ∧ (type_of% (rx_CEND h)) ∧ (type_of% (rx_STARTS h)) ∧ (type_of% (rx_CST h)) ∧ (type_of% (rx_LOST h)) ∧ (type_of% (rx_QTIMES h)) ∧ (type_of% (rx_QHOP h)) ∧ (type_of% (rx_QEND h)) ∧ (type_of% (rx_ENOUGH h)) ∧ (type_of% (rx_PEERS h)) ∧ (type_of% (rx_ACCS h)) ∧ (type_of% (rx_SESS h)) ∧ (type_of% (rx_ASKS h)) ∧ (type_of% (rx_KEPTS h)) ∧ (type_of% (rx_NOW h)) ∧ (type_of% (rx_HOPS h)) ∧ (type_of% (rx_LIM h)) ∧ (type_of% (rx_DUE h)) ∧ (type_of% (rx_INL h)) ∧ (type_of% (rx_ANUM h)) ∧ (type_of% (rx_ABAL h)) ∧ (type_of% (rx_ARES h)) ∧ (type_of% (rx_ACHG h)) ∧ (type_of% (rx_QRES h)) ∧ (type_of% (rx_OWN h)) ∧ (type_of% (rx_CAME h)) ∧ (type_of% (rx_CPEER h)) ∧ (type_of% (rx_QPEER h)) ∧ (type_of% (rx_CROLE h)) :=
  ⟨rx_p0_0 h, rx_p0_1 h, rx_p0_2 h, rx_p0_3 h, rx_p0_4 h, rx_p0_5 h, rx_p0_6 h, rx_p0_7 h, rx_p0_9 h, rx_p0_11 h, rx_p0_13 h, rx_p0_15 h, rx_p2_0 h, rx_p3_0 h, rx_p3_8 h, rx_p3_9 h, rx_p3_10 h, rx_p1_0 h, rx_p4_4 h, rx_p4_6 h, rx_p5_0 h, rx_p5_1 h, rx_p5_2 h, rx_p6_0 h, rx_p6_1 h, rx_p6_2 h, rx_p7_0 h, rx_p7_3 h, rx_p9_1 h, rx_ST h, rx_STAT h, rx_AWAIT h, rx_OVER h, rx_ANSW h, rx_OHOP h, rx_WHOP h, rx_EHOP h, rx_CFL h, rx_CHOP h, rx_CEND h, rx_STARTS h, rx_CST h, rx_LOST h, rx_QTIMES h, rx_QHOP h, rx_QEND h, rx_ENOUGH h, rx_PEERS h, rx_ACCS h, rx_SESS h, rx_ASKS h, rx_KEPTS h, rx_NOW h, rx_HOPS h, rx_LIM h, rx_DUE h, rx_INL h, rx_ANUM h, rx_ABAL h, rx_ARES h, rx_ACHG h, rx_QRES h, rx_OWN h, rx_CAME h, rx_CPEER h, rx_QPEER h, rx_CROLE h⟩
theorem fm {T σ : z_St} {A : w_A} (h : w_M T σ A) : (type_of% (rm_p3 h)) ∧ (type_of% (rm_p5 h)) ∧ (type_of% (rm_p8 h)) ∧ (type_of% (rm_p9 h)) ∧ (type_of% (rm_p10 h)) ∧ (type_of% (rm_p11 h)) ∧ (type_of% (rm_p12 h)) ∧ (type_of% (rm_p13 h)) ∧ (type_of% (rm_p14 h)) ∧ (type_of% (rm_p15 h)) ∧ (type_of% (rm_p16 h)) ∧ (type_of% (rm_p17 h)) ∧ (type_of% (rm_p18 h)) ∧ (type_of% (rm_p19 h)) ∧ (type_of% (rm_p20 h)) ∧ (type_of% (rm_p21 h)) ∧ (type_of% (rm_p22 h)) ∧ (type_of% (rm_p23 h)) ∧ (type_of% (rm_p24 h)) ∧ (type_of% (rm_p25 h)) ∧ (type_of% (rm_p26 h)) ∧ (type_of% (rm_p27 h)) ∧ (type_of% (rm_p28 h)) ∧ (type_of% (rm_p29 h)) ∧ (type_of% (rm_p30 h)) ∧ (type_of% (rm_p31 h)) ∧ (type_of% (rm_p32 h)) ∧ (type_of% (rm_p33 h)) ∧ (type_of% (rm_p36 h)) ∧ (type_of% (rm_p37 h)) ∧ (type_of% (rm_p38 h)) ∧ (type_of% (rm_p39 h)) ∧ (type_of% (rm_p41 h)) ∧ (type_of% (rm_p42 h)) ∧ (type_of% (rm_p43 h)) ∧ (type_of% (rm_p44 h)) ∧ (type_of% (rm_p45 h)) ∧ (type_of% (rm_p46 h)) ∧ (type_of% (rm_p47 h)) ∧ (type_of% (rm_p48 h)) ∧ (type_of% (rm_p50 h)) ∧ (type_of% (rm_p51 h)) ∧ (type_of% (rm_p52 h)) ∧ (type_of% (rm_p53 h)) ∧ (type_of% (rm_p54 h)) ∧ (type_of% (rm_p55 h)) ∧ (type_of% (rm_p56 h)) ∧ (type_of% (rm_p57 h)) ∧ (type_of% (rm_p58 h)) ∧ (type_of% (rm_p60 h)) ∧ (type_of% (rm_p61 h)) ∧ (type_of% (rm_p62 h)) ∧ (type_of% (rm_p63 h)) ∧ (type_of% (rm_p64 h)) ∧ (type_of% (rm_p65 h)) ∧ (type_of% (rm_p76 h)) ∧ (type_of% (rm_p77 h)) ∧ (type_of% (rm_p78 h)) ∧ (type_of% (rm_p79 h)) ∧ (type_of% (rm_p85 h)) ∧ (type_of% (rm_p86 h)) ∧ (type_of% (rm_p87 h)) ∧ (type_of% (rm_ST h)) ∧ (type_of% (rm_STAT h)) ∧ (type_of% (rm_AWAIT h)) ∧ (type_of% (rm_OVER h)) ∧ (type_of% (rm_ANSW h)) ∧ (type_of% (rm_OHOP h)) ∧ (type_of% (rm_WHOP h)) ∧ (type_of% (rm_EHOP h)) ∧ (type_of% (rm_CFL h)) ∧ (type_of% (rm_CHOP h)) ∧ (type_of% (rm_CEND h)) ∧ (type_of% (rm_STARTS h)) ∧ (type_of% (rm_CST h)) ∧ (type_of% (rm_CROLE h)) ∧ (type_of% (rm_LOST h)) ∧ (type_of% (rm_QTIMES h)) ∧ (type_of% (rm_QHOP h)) ∧ (type_of% (rm_QEND h)) ∧ (type_of% (rm_ENOUGH h)) ∧ (type_of% (rm_PEERS h)) ∧ (type_of% (rm_ACCS h)) ∧ (type_of% (rm_SESS h)) ∧ (type_of% (rm_ASKS h)) ∧ (type_of% (rm_KEPTS h)) ∧ (type_of% (rm_NOW h)) ∧ (type_of% (rm_HOPS h)) ∧ (type_of% (rm_LIM h)) ∧ (type_of% (rm_DUE h)) ∧ (type_of% (rm_OWN h)) ∧ (type_of% (rm_CAME h)) ∧ (type_of% (rm_CPEER h)) ∧ (type_of% (rm_QPEER h)) ∧ (type_of% (rm_INL h)) ∧ (type_of% (rm_QCONN h)) ∧ (type_of% (rm_ANUM h)) ∧ (type_of% (rm_ABAL h)) ∧ (type_of% (rm_ARES h)) ∧ (type_of% (rm_ACHG h)) ∧ (type_of% (rm_QRES h)) :=
  ⟨rm_p3 h, rm_p5 h, rm_p8 h, rm_p9 h, rm_p10 h, rm_p11 h, rm_p12 h, rm_p13 h, rm_p14 h, rm_p15 h, rm_p16 h, rm_p17 h, rm_p18 h, rm_p19 h, rm_p20 h, rm_p21 h, rm_p22 h, rm_p23 h, rm_p24 h, rm_p25 h, rm_p26 h, rm_p27 h, rm_p28 h, rm_p29 h, rm_p30 h, rm_p31 h, rm_p32 h, rm_p33 h, rm_p36 h, rm_p37 h, rm_p38 h, rm_p39 h, rm_p41 h, rm_p42 h, rm_p43 h, rm_p44 h, rm_p45 h, rm_p46 h, rm_p47 h, rm_p48 h, rm_p50 h, rm_p51 h, rm_p52 h, rm_p53 h, rm_p54 h, rm_p55 h, rm_p56 h, rm_p57 h, rm_p58 h, rm_p60 h, rm_p61 h, rm_p62 h, rm_p63 h, rm_p64 h, rm_p65 h, rm_p76 h, rm_p77 h, rm_p78 h, rm_p79 h, rm_p85 h, rm_p86 h, rm_p87 h, rm_ST h, rm_STAT h, rm_AWAIT h, rm_OVER h, rm_ANSW h, rm_OHOP h, rm_WHOP h, rm_EHOP h, rm_CFL h, rm_CHOP h, rm_CEND h, rm_STARTS h, rm_CST h, rm_CROLE h, rm_LOST h, rm_QTIMES h, rm_QHOP h, rm_QEND h, rm_ENOUGH h, rm_PEERS h, rm_ACCS h, rm_SESS h, rm_ASKS h, rm_KEPTS h, rm_NOW h, rm_HOPS h, rm_LIM h, rm_DUE h, rm_OWN h, rm_CAME h, rm_CPEER h, rm_QPEER h, rm_INL h, rm_QCONN h, rm_ANUM h, rm_ABAL h, rm_ARES h, rm_ACHG h, rm_QRES h⟩
