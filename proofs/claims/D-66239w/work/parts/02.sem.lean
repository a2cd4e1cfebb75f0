/-! PART 02: the simple machine. References are (class, number); memory is functions; operations in continuation style -/
abbrev z_Ad : Type := Nat × Nat
abbrev z_V : Type := Int32 ⊕ Int64 ⊕ Option z_Ad
/-- counters, the list of what was made, ints (field: class, slot, number; array: site, number, index), longs, references -/
abbrev z_St : Type := (Nat → Nat) × List z_Ad × (Nat → Nat → Nat → Int32) × (Nat → Nat → Nat → Int64) × (Nat → Nat → Nat → Option z_Ad)
abbrev z_L : Type := List (Option z_V)
abbrev z_R : Type := z_St × Option z_V
abbrev z_O : Type := Nat → List z_V → z_St → Option z_R
abbrev z_K : Type := z_L → List z_V → z_St → Option z_R
abbrev z_Op : Type := z_O → z_L → List z_V → z_St → z_K → Option z_R
abbrev z_J : Type := Nat → z_L → List z_V → z_St → Option z_R
abbrev z_Tm : Type := z_L → List z_V → z_St → z_J → Option z_R
def cn (σ : z_St) : Nat → Nat := σ.1
def al (σ : z_St) : List z_Ad := σ.2.1
def gI (σ : z_St) : Nat → Nat → Nat → Int32 := σ.2.2.1
def gJ (σ : z_St) : Nat → Nat → Nat → Int64 := σ.2.2.2.1
def gR (σ : z_St) : Nat → Nat → Nat → Option z_Ad := σ.2.2.2.2
/-- an index within (vp_in, decidable) -/
abbrev zin (i : Int32) (n : Nat) : Prop := ¬ (i < 0 ∨ n ≤ i.toNatClampNeg)
def z_row {α : Type} (f : Nat → Nat → Nat → α) (a b : Nat) (r : Nat → α) : Nat → Nat → Nat → α := fun x y => if x = a ∧ y = b then r else f x y
/-- a row of the memory replaced -/
def rI (σ : z_St) (a b : Nat) (r : Nat → Int32) : z_St := (σ.1, σ.2.1, z_row σ.2.2.1 a b r, σ.2.2.2.1, σ.2.2.2.2)
def rJ (σ : z_St) (a b : Nat) (r : Nat → Int64) : z_St := (σ.1, σ.2.1, σ.2.2.1, z_row σ.2.2.2.1 a b r, σ.2.2.2.2)
def rR (σ : z_St) (a b : Nat) (r : Nat → Option z_Ad) : z_St := (σ.1, σ.2.1, σ.2.2.1, σ.2.2.2.1, z_row σ.2.2.2.2 a b r)
def z_col {α : Type} (f : Nat → Nat → Nat → α) (a n : Nat) (v : α) : Nat → Nat → Nat → α := fun x y => if x = a then va_up (f x y) n v else f x y
/-- a new object, a new array: the number is the class's counter and an offset -/
def nO (σ : z_St) (a n : Nat) : z_St := (va_up σ.1 a (σ.1 a + 1), σ.2.1 ++ [(a, n)], z_col σ.2.2.1 a n 0, z_col σ.2.2.2.1 a n 0, z_col σ.2.2.2.2 a n none)
def nA (σ : z_St) (a n : Nat) : z_St := (va_up σ.1 a (σ.1 a + 1), σ.2.1 ++ [(a, n)], z_row σ.2.2.1 a n (fun _ => 0), z_row σ.2.2.2.1 a n (fun _ => 0), z_row σ.2.2.2.2 a n (fun _ => none))
def z_get : z_L → Nat → Option z_V
  | [], _ => none
  | a :: _, 0 => a
  | _ :: l, n + 1 => z_get l n
def z_set : z_L → Nat → Option z_V → z_L
  | [], _, _ => []
  | _ :: l, 0, v => v :: l
  | a :: l, n + 1, v => a :: z_set l n v
def z_kill (ls : z_L) : Nat → z_L
  | 0 => ls
  | n + 1 => match z_get ls n with
    | some (.inr (.inl _)) => z_set ls n none
    | _ => ls
def z_st1 (ls : z_L) (n : Nat) (v : z_V) : z_L := z_set (z_kill ls n) n (some v)
def z_st2 (ls : z_L) (n : Nat) (v : z_V) : z_L := z_set (z_set (z_kill ls n) (n + 1) none) n (some v)
/-- locals that are not live are forgotten -/
def z_mask : List Bool → z_L → z_L
  | true :: bs, a :: l => a :: z_mask bs l
  | false :: bs, _ :: l => none :: z_mask bs l
  | _, _ => []
def z_cat : z_V → Nat
  | .inr (.inl _) => 2
  | _ => 1
def z_w : List z_V → Nat
  | [] => 0
  | v :: l => z_cat v + z_w l
/-- arguments as locals -/
def z_arg : List z_V → z_L
  | [] => []
  | .inr (.inl x) :: l => some (.inr (.inl x)) :: none :: z_arg l
  | .inl x :: l => some (.inl x) :: z_arg l
  | .inr (.inr r) :: l => some (.inr (.inr r)) :: z_arg l
def z_pad : Nat → z_L → z_L
  | 0, _ => []
  | n + 1, [] => none :: z_pad n []
  | n + 1, a :: l => a :: z_pad n l
def dr (r : Option z_Ad) (f : z_Ad → Option z_R) : Option z_R := match r with
  | none => none
  | some a => f a
def gd (b : Prop) [Decidable b] (x : Option z_R) : Option z_R := if b then x else none
def cv (x : Option z_R) (f : z_St → Option z_R) : Option z_R := match x with
  | some (σ, none) => f σ
  | _ => none
def cr (x : Option z_R) (f : z_St → z_V → Option z_R) : Option z_R := match x with
  | some (σ, some v) => f σ v
  | _ => none
/-! combinators: pop an int, a long, a reference, an object; a check; push; read and write the state; locals -/
def pI (F : Int32 → z_Op) : z_Op := fun C ls st σ k => match st with
  | .inl x :: st => F x C ls st σ k
  | _ => none
def pJ (F : Int64 → z_Op) : z_Op := fun C ls st σ k => match st with
  | .inr (.inl x) :: st => F x C ls st σ k
  | _ => none
def pR (F : Option z_Ad → z_Op) : z_Op := fun C ls st σ k => match st with
  | .inr (.inr r) :: st => F r C ls st σ k
  | _ => none
def pD (F : z_Ad → z_Op) : z_Op := pR fun r C ls st σ k => dr r fun q => F q C ls st σ k
def ck (b : Prop) [Decidable b] (o : z_Op) : z_Op := fun C ls st σ k => gd b (o C ls st σ k)
def cw (o : z_Op) : z_Op := fun C ls st σ k => gd (z_w st ≤ 8) (o C ls st σ k)
def psh (v : z_V) : z_Op := fun _ ls st σ k => k ls (v :: st) σ
def skp : z_Op := fun _ ls st σ k => k ls st σ
def rd (F : z_St → z_Op) : z_Op := fun C ls st σ k => F σ C ls st σ k
def wr (G : z_St → z_St) : z_Op := fun _ ls st σ k => k ls st (G σ)
def lI (n : Nat) (F : Int32 → z_Op) : z_Op := fun C ls st σ k => match z_get ls n with
  | some (.inl x) => F x C ls st σ k
  | _ => none
def lJ (n : Nat) (F : Int64 → z_Op) : z_Op := fun C ls st σ k => match z_get ls n with
  | some (.inr (.inl x)) => F x C ls st σ k
  | _ => none
def lR (n : Nat) (F : Option z_Ad → z_Op) : z_Op := fun C ls st σ k => match z_get ls n with
  | some (.inr (.inr x)) => F x C ls st σ k
  | _ => none
def s1 (n : Nat) (v : z_V) : z_Op := fun _ ls st σ k => k (z_st1 ls n v) st σ
def s2 (n : Nat) (v : z_V) : z_Op := fun _ ls st σ k => k (z_st2 ls n v) st σ
/-! loads, stores, constants -/
def zo_ldI (n : Nat) : z_Op := lI n fun x => psh (.inl x)
def zo_ldJ (n : Nat) : z_Op := lJ n fun x => psh (.inr (.inl x))
def zo_ldA (n : Nat) : z_Op := lR n fun x => psh (.inr (.inr x))
def zo_stI (n : Nat) : z_Op := pI fun x => s1 n (.inl x)
def zo_stJ (n : Nat) : z_Op := pJ fun x => s2 n (.inr (.inl x))
def zo_stA (n : Nat) : z_Op := pR fun x => s1 n (.inr (.inr x))
def zo_inc (n : Nat) (c : Int32) : z_Op := lI n fun x => s1 n (.inl (x + c))
def zo_cI (c : Int32) : z_Op := psh (.inl c)
def zo_cJ (c : Int64) : z_Op := psh (.inr (.inl c))
def zo_null : z_Op := psh (.inr (.inr none))
/-! stack: dup of an int, of a reference; dup_x1 and dup2 of an int over a reference -/
def ps2 (v w : z_V) : z_Op := fun _ ls st σ k => k ls (v :: w :: st) σ
def ps3 (v w u : z_V) : z_Op := fun _ ls st σ k => k ls (v :: w :: u :: st) σ
def ps4 (v w u t : z_V) : z_Op := fun _ ls st σ k => k ls (v :: w :: u :: t :: st) σ
def zo_dupI : z_Op := pI fun x => ps2 (.inl x) (.inl x)
def zo_dupR : z_Op := pR fun x => ps2 (.inr (.inr x)) (.inr (.inr x))
def zo_dupx1 : z_Op := pI fun x => pR fun r => ps3 (.inl x) (.inr (.inr r)) (.inl x)
def zo_dup2 : z_Op := pI fun x => pR fun r => ps4 (.inl x) (.inr (.inr r)) (.inl x) (.inr (.inr r))
/-! arithmetic -/
def zo_ii (f : Int32 → Int32 → Int32) : z_Op := pI fun y => pI fun x => psh (.inl (f x y))
def zo_div : z_Op := pI fun y => pI fun x => ck (¬ y = 0) (psh (.inl (x / y)))
def zo_rem : z_Op := pI fun y => pI fun x => ck (¬ y = 0) (psh (.inl (x - x / y * y)))
def zo_i2b : z_Op := pI fun x => psh (.inl x.toInt8.toInt32)
def zo_jj (f : Int64 → Int64 → Int64) : z_Op := pJ fun y => pJ fun x => psh (.inr (.inl (f x y)))
def zo_lneg : z_Op := pJ fun x => psh (.inr (.inl (-x)))
def zo_lshl : z_Op := pI fun y => pJ fun x => psh (.inr (.inl (x <<< (y.toInt64 &&& 63))))
def zo_lshr : z_Op := pI fun y => pJ fun x => psh (.inr (.inl (x >>> (y.toInt64 &&& 63))))
def zo_i2l : z_Op := pI fun x => psh (.inr (.inl x.toInt64))
def zo_l2i : z_Op := pJ fun x => psh (.inl x.toInt32)
def zo_lcmp : z_Op := pJ fun y => pJ fun x => psh (.inl (lg_cmp x y))
def zo_maxJ : z_Op := pJ fun y => pJ fun x => cw (psh (.inr (.inl (if y < x then x else y))))
def zo_minJ : z_Op := pJ fun y => pJ fun x => cw (psh (.inr (.inl (if y < x then y else x))))
/-! fields -/
def zo_gI (a b : Nat) : z_Op := pD fun q => ck (q.1 = a) (rd fun σ => psh (.inl (gI σ a b q.2)))
def zo_gJ (a b : Nat) : z_Op := pD fun q => ck (q.1 = a) (rd fun σ => psh (.inr (.inl (gJ σ a b q.2))))
def zo_gR (a b : Nat) : z_Op := pD fun q => ck (q.1 = a) (rd fun σ => psh (.inr (.inr (gR σ a b q.2))))
def zo_pI (a b : Nat) : z_Op := pI fun x => pD fun q => ck (q.1 = a) (wr fun σ => rI σ a b (va_up (gI σ a b) q.2 x))
/-- a boolean field -/
def zo_pZ (a b : Nat) : z_Op := pI fun x => pD fun q => ck (q.1 = a) (ck (x = 0 ∨ x = 1) (wr fun σ => rI σ a b (va_up (gI σ a b) q.2 x)))
def zo_pJ (a b : Nat) : z_Op := pJ fun x => pD fun q => ck (q.1 = a) (wr fun σ => rJ σ a b (va_up (gJ σ a b) q.2 x))
def zo_pR (a b : Nat) : z_Op := pR fun x => pD fun q => ck (q.1 = a) (wr fun σ => rR σ a b (va_up (gR σ a b) q.2 x))
/-- an enum constant's int field, its row (the constant is (12, i), its row (13, i)), the row's places, a static that holds a constant -/
def zo_gC (f : List Int32) : z_Op := pD fun q => ck (q.1 = 12 ∧ q.2 < 5) (psh (.inl (f.getD q.2 0)))
def zo_gW : z_Op := pD fun q => ck (q.1 = 12 ∧ q.2 < 5) (psh (.inr (.inr (some (13, q.2)))))
def z_wants : List (List Int32) := [[264, 296, 258, 0, 0], [264, 296, 0, 0, 0], [264, 296, 273, 0, 0], [263, 264, 296, 416, 415], [268, 264, 296, 0, 0]]
def zo_aldW : z_Op := pI fun i => pD fun q => ck (q.1 = 13 ∧ q.2 < 5) (ck (zin i 5) (psh (.inl ((z_wants.getD q.2 []).getD i.toNatClampNeg 0))))
def zo_lenW : z_Op := pD fun q => ck (q.1 = 13 ∧ q.2 < 5) (psh (.inl 5))
def zo_stC (i : Nat) : z_Op := psh (.inr (.inr (some (12, i))))
/-! arrays: of which type and length a site's arrays are -/
def zo_aldI (t : Nat) : z_Op := pI fun i => pD fun q => ck (aTy q.1 = t) (ck (zin i (aLen q.1)) (rd fun σ => psh (.inl (gI σ q.1 q.2 i.toNatClampNeg))))
def zo_aldJ : z_Op := pI fun i => pD fun q => ck (aTy q.1 = 19) (ck (zin i (aLen q.1)) (rd fun σ => psh (.inr (.inl (gJ σ q.1 q.2 i.toNatClampNeg)))))
def zo_aldR : z_Op := pI fun i => pD fun q => ck (20 ≤ aTy q.1 ∧ aTy q.1 ≤ 26) (ck (zin i (aLen q.1)) (rd fun σ => psh (.inr (.inr (gR σ q.1 q.2 i.toNatClampNeg)))))
def zo_astI : z_Op := pI fun x => pI fun i => pD fun q => ck (aTy q.1 = 16) (ck (zin i (aLen q.1)) (wr fun σ => rI σ q.1 q.2 (va_up (gI σ q.1 q.2) i.toNatClampNeg x)))
def zo_astB : z_Op := pI fun x => pI fun i => pD fun q => ck (aTy q.1 = 17) (ck (zin i (aLen q.1)) (wr fun σ => rI σ q.1 q.2 (va_up (gI σ q.1 q.2) i.toNatClampNeg x.toInt8.toInt32)))
def zo_astZ : z_Op := pI fun x => pI fun i => pD fun q => ck (aTy q.1 = 18) (ck (zin i (aLen q.1)) (wr fun σ => rI σ q.1 q.2 (va_up (gI σ q.1 q.2) i.toNatClampNeg (vp_nar .boolean x))))
def zo_astJ : z_Op := pJ fun x => pI fun i => pD fun q => ck (aTy q.1 = 19) (ck (zin i (aLen q.1)) (wr fun σ => rJ σ q.1 q.2 (va_up (gJ σ q.1 q.2) i.toNatClampNeg x)))
def zo_astR : z_Op := pD fun v => pI fun i => pD fun q => ck (20 ≤ aTy q.1 ∧ aTy q.1 ≤ 25 ∧ v.1 = aEl q.1) (ck (zin i (aLen q.1)) (wr fun σ => rR σ q.1 q.2 (va_up (gR σ q.1 q.2) i.toNatClampNeg (some v))))
def zo_len : z_Op := pD fun q => ck (16 ≤ aTy q.1 ∧ aTy q.1 ≤ 26) (psh (.inl (Int32.ofNat (aLen q.1))))
/-- the script, cell (14, 0) -/
def zo_sld : z_Op := pI fun i => pD fun q => ck (q = (14, 0)) (rd fun σ => ck (zin i (cn σ 14)) (psh (.inl (gI σ 14 0 i.toNatClampNeg))))
def zo_slen : z_Op := pD fun q => ck (q = (14, 0)) (rd fun σ => psh (.inl (Int32.ofNat (cn σ 14))))
/-- System.arraycopy of octets -/
def zo_copy : z_Op := pI fun n => pI fun dp => pD fun d => pI fun sp => pD fun q => ck (aTy q.1 = 17 ∧ aTy d.1 = 17) (ck (¬ sp < 0 ∧ ¬ dp < 0 ∧ ¬ n < 0 ∧ sp.toNatClampNeg + n.toNatClampNeg ≤ aLen q.1 ∧ dp.toNatClampNeg + n.toNatClampNeg ≤ aLen d.1)
  (cw (wr fun σ => rI σ d.1 d.2 (va_cpy (gI σ q.1 q.2) (gI σ d.1 d.2) sp.toNatClampNeg dp.toNatClampNeg n.toNatClampNeg))))
/-! making -/
def mkO (a : Nat) : z_Op := fun _ ls st σ k => k ls (.inr (.inr (some (a, cn σ a + z_off a))) :: st) (nO σ a (cn σ a + z_off a))
def mkA (a : Nat) : z_Op := fun _ ls st σ k => k ls (.inr (.inr (some (a, cn σ a + z_off a))) :: st) (nA σ a (cn σ a + z_off a))
def mkV (a : Nat) : z_Op := fun _ ls st σ k => k ls (.inr (.inr (some (a, cn σ a + z_off a))) :: st) (rR (nA σ a (cn σ a + z_off a)) a (cn σ a + z_off a) (fun i => if i < 5 then some (12, i) else none))
def zo_new (a : Nat) : z_Op := mkO a
def zo_newA (a : Nat) (c : Int32) : z_Op := pI fun n => ck (n = c) (mkA a)
def zo_obj : z_Op := pD fun _ => cw skp
/-- a copy of the enum's constants -/
def zo_vals (a : Nat) : z_Op := cw (mkV a)
/-! calls -/
def z_take : Nat → List z_V → List z_V → Option (List z_V × List z_V)
  | 0, acc, st => some (acc, st)
  | n + 1, acc, v :: st => z_take n (v :: acc) st
  | _ + 1, _, [] => none
def pA (n : Nat) (F : List z_V → z_Op) : z_Op := fun C ls st σ k => match z_take n [] st with
  | some (as, st) => F as C ls st σ k
  | none => none
def clv (y : Nat) (as : List z_V) : z_Op := fun C ls st σ k => cv (C y as σ) fun σ => k ls st σ
def clr (y : Nat) (as : List z_V) : z_Op := fun C ls st σ k => cr (C y as σ) fun σ v => k ls (v :: st) σ
/-- methods of objects of class a, with n arguments beside the object; static methods -/
def zo_cvV (y n a : Nat) : z_Op := pA n fun as => pD fun q => ck (q.1 = a) (cw (clv y (.inr (.inr (some q)) :: as)))
def zo_crV (y n a : Nat) : z_Op := pA n fun as => pD fun q => ck (q.1 = a) (cw (clr y (.inr (.inr (some q)) :: as)))
def zo_cvS (y n : Nat) : z_Op := pA n fun as => cw (clv y as)
def zo_crS (y n : Nat) : z_Op := pA n fun as => cw (clr y as)
/-! ends of blocks -/
def zt_goto (b : Nat) (m : List Bool) : z_Tm := fun ls st σ j => j b (z_mask m ls) st σ
def zt_if (p : Int32 → Prop) [DecidablePred p] (b1 : Nat) (m1 : List Bool) (b2 : Nat) (m2 : List Bool) : z_Tm := fun ls st σ j => match st with
  | .inl x :: st => if p x then j b1 (z_mask m1 ls) st σ else j b2 (z_mask m2 ls) st σ
  | _ => none
def zt_icmp (p : Int32 → Int32 → Prop) [∀ x y, Decidable (p x y)] (b1 : Nat) (m1 : List Bool) (b2 : Nat) (m2 : List Bool) : z_Tm := fun ls st σ j => match st with
  | .inl y :: .inl x :: st => if p x y then j b1 (z_mask m1 ls) st σ else j b2 (z_mask m2 ls) st σ
  | _ => none
/-- to b1 if null -/
def zt_null (b1 : Nat) (m1 : List Bool) (b2 : Nat) (m2 : List Bool) : z_Tm := fun ls st σ j => match st with
  | .inr (.inr r) :: st => if r = none then j b1 (z_mask m1 ls) st σ else j b2 (z_mask m2 ls) st σ
  | _ => none
def z_dyn (r : Option z_Ad) : Bool := match r with
  | none => true
  | some q => decide (q.1 < 12)
/-- to b1 if one and the same -/
def zt_acmp (b1 : Nat) (m1 : List Bool) (b2 : Nat) (m2 : List Bool) : z_Tm := fun ls st σ j => match st with
  | .inr (.inr y) :: .inr (.inr x) :: st => gd (z_dyn x = true ∧ z_dyn y = true) (if x = y then j b1 (z_mask m1 ls) st σ else j b2 (z_mask m2 ls) st σ)
  | _ => none
def z_pick (d : Nat × List Bool) (x : Int32) (ls : z_L) (st : List z_V) (σ : z_St) (j : z_J) : List (Int32 × Nat × List Bool) → Option z_R
  | [] => j d.1 (z_mask d.2 ls) st σ
  | c :: cs => if x = c.1 then j c.2.1 (z_mask c.2.2 ls) st σ else z_pick d x ls st σ j cs
def zt_sw (cs : List (Int32 × Nat × List Bool)) (d : Nat × List Bool) : z_Tm := fun ls st σ j => match st with
  | .inl x :: st => z_pick d x ls st σ j cs
  | _ => none
def zt_iret : z_Tm := fun _ st σ _ => match st with
  | [.inl x] => some (σ, some (.inl x))
  | _ => none
def zt_zret : z_Tm := fun _ st σ _ => match st with
  | [.inl x] => gd (x = 0 ∨ x = 1) (some (σ, some (.inl x)))
  | _ => none
def zt_lret : z_Tm := fun _ st σ _ => match st with
  | [.inr (.inl x)] => some (σ, some (.inr (.inl x)))
  | _ => none
def zt_aret : z_Tm := fun _ st σ _ => match st with
  | [.inr (.inr x)] => some (σ, some (.inr (.inr x)))
  | _ => none
def zt_vret : z_Tm := fun _ st σ _ => match st with
  | [] => some (σ, none)
  | _ => none
def zt_none : z_Tm := fun _ _ _ _ => none
/-! a block, a method, all methods -/
def z_run : List z_Op → z_Tm → z_O → z_L → List z_V → z_St → z_J → Option z_R
  | [], t, _, ls, st, σ, j => t ls st σ j
  | o :: os, t, C, ls, st, σ, j => o C ls st σ (fun ls st σ => z_run os t C ls st σ j)
abbrev z_M : Type := Nat → List z_Op × z_Tm
def z_it (P : z_M) (C : z_O) : Nat → z_J
  | 0 => fun _ _ _ _ => none
  | n + 1 => fun b ls st σ => z_run (P b).1 (P b).2 C ls st σ (z_it P C n)
noncomputable def E (P : z_M) (C : z_O) : z_J := fun b ls st σ => @dite _ (∃ n r, z_it P C n b ls st σ = some r) (Classical.propDecidable _) (fun h => some (Classical.choose (Classical.choose_spec h))) (fun _ => none)
def z_dead : List z_Op × z_Tm := ([], zt_none)
