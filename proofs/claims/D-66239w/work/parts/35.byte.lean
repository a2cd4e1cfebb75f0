/-! PART 35 (src 35.byte.src): octets of numbers -/
def nb (x : Int32) : Int32 := x.toInt8.toInt32
theorem nb_nb (x : Int32) : nb (nb x) = nb x := by unfold nb; rw [Int8.toInt8_toInt32]
theorem nb_un (x : Int32) : x.toInt8.toInt32 = nb x := rfl
theorem by8_nb (x k : Int32) : nb (by8 x k) = by8 x k := nb_nb _
def z_by (l : List Int32) : Prop := ∀ x ∈ l, nb x = x
theorem z_by_nil : z_by [] := fun _ h => by cases h
theorem z_by_app {l m : List Int32} (h : z_by l) (g : z_by m) : z_by (l ++ m) := fun x hx => (List.mem_append.mp hx).elim (h x) (g x)
theorem z_by_cons {x : Int32} {l : List Int32} (h : nb x = x) (g : z_by l) : z_by (x :: l) := fun y hy => by
  rcases List.mem_cons.mp hy with e | e
  · rw [e]; exact h
  · exact g y e
theorem z_by_map {l : List Int32} (h : z_by l) : l.map nb = l := by
  induction l with
  | nil => rfl
  | cons a l ih => rw [List.map_cons, h a List.mem_cons_self, ih fun x hx => h x (List.mem_cons_of_mem _ hx)]
theorem z_by_rep (n : Nat) : z_by (List.replicate n 0) := fun x hx => by rw [(List.mem_replicate.mp hx).2]; rfl
theorem z_by_take {l : List Int32} (h : z_by l) (n : Nat) : z_by (l.take n) := fun x hx => h x (List.mem_of_mem_take hx)
theorem z_by_drop {l : List Int32} (h : z_by l) (n : Nat) : z_by (l.drop n) := fun x hx => h x (List.mem_of_mem_drop hx)
theorem b1_by (x : Int32) : z_by (b1 x) := z_by_cons (by8_nb _ _) z_by_nil
theorem b3_by (x : Int32) : z_by (b3 x) := z_by_cons (by8_nb _ _) (z_by_cons (by8_nb _ _) (z_by_cons (by8_nb _ _) z_by_nil))
theorem b4_by (x : Int32) : z_by (b4 x) := z_by_cons (by8_nb _ _) (b3_by x)
theorem z_by_c {l : List Int32} (h : l.all (fun x => nb x == x) = true) : z_by l := fun x hx => by simpa using List.all_eq_true.mp h x hx
theorem fn_attr_by (c : Int32) (n : Nat) : z_by (fn_attr c n) := z_by_app (z_by_app (b4_by _) (z_by_c rfl)) (b3_by _)
theorem fn_hd_by (a b c d e : Int32) : z_by (fn_hd a b c d e) := z_by_app (z_by_app (z_by_app (z_by_app (z_by_app (z_by_c rfl) (b1_by _)) (b3_by _)) (b4_by _)) (b4_by _)) (b4_by _)
theorem fn_txt_by (c : Int32) {l : List Int32} (h : z_by l) : z_by (fn_txt c l) := z_by_app (z_by_app (fn_attr_by _ _) h) (z_by_rep _)
theorem fn_num_by (c v : Int32) : z_by (fn_num c v) := z_by_app (fn_attr_by _ _) (b4_by _)
theorem fn_me_by {A : w_A} (h : z_by (vL A 1 0)) : z_by (fn_me A) := z_by_app (fn_txt_by _ h) (z_by_app (fn_attr_by _ _) (b4_by _))
theorem fn_addr_by : z_by fn_addr := z_by_app (z_by_app (fn_attr_by _ _) (z_by_c rfl)) (z_by_app (z_by_app (fn_num_by _ _) (z_by_app (fn_attr_by _ _) (b4_by _))) (fn_num_by _ _))
theorem fn_fix_by {l : List Int32} (h : z_by l) : z_by (fn_fix l) := z_by_app (z_by_app (z_by_take h _) (b3_by _)) (z_by_drop h _)
/-! lengths -/
theorem b1_len (x : Int32) : (b1 x).length = 1 := rfl
theorem b3_len (x : Int32) : (b3 x).length = 3 := rfl
theorem b4_len (x : Int32) : (b4 x).length = 4 := rfl
theorem fn_attr_len (c : Int32) (n : Nat) : (fn_attr c n).length = 8 := rfl
theorem fn_hd_len (a b c d e : Int32) : (fn_hd a b c d e).length = 20 := rfl
theorem fn_pad_len (n : Nat) : (fn_pad n).length = (4 - n % 4) % 4 := List.length_replicate
theorem fn_txt_len (c : Int32) (l : List Int32) : (fn_txt c l).length = 8 + l.length + (4 - l.length % 4) % 4 := by
  unfold fn_txt
  rw [List.length_append, List.length_append, fn_attr_len, fn_pad_len]
theorem fn_num_len (c v : Int32) : (fn_num c v).length = 12 := rfl
theorem fn_me_len (A : w_A) : (fn_me A).length = 20 + (vL A 1 0).length + (4 - (vL A 1 0).length % 4) % 4 := by
  unfold fn_me
  rw [List.length_append, fn_txt_len, List.length_append, fn_attr_len, b4_len]
  omega
theorem fn_addr_len : fn_addr.length = 52 := rfl
theorem fn_fix_len {l : List Int32} (h : 4 ≤ l.length) : (fn_fix l).length = l.length := by
  unfold fn_fix
  rw [List.length_append, List.length_append, b3_len, List.length_take, List.length_drop]
  omega
/-! a long's octets -/
def byJ (x : Int64) (k : Int32) : Int32 := (x >>> ((8 * k).toInt64 &&& 63)).toInt32.toInt8.toInt32
def bJ (v : Int64) : Nat → List Int32
  | 0 => []
  | m + 1 => byJ v (Int32.ofNat m) :: bJ v m
theorem bJ_len (v : Int64) : ∀ n, (bJ v n).length = n
  | 0 => rfl
  | n + 1 => by rw [bJ, List.length_cons, bJ_len v n]
theorem byJ_of (x : Int64) (k : Int32) (s : Nat) (hs : s ≤ 24) (h1 : ((8 * k).toInt64 &&& 63) = Int64.ofNat s) (h2 : (8 * k &&& 31) = Int32.ofNat s) : byJ x k = by8 x.toInt32 k := by
  unfold byJ by8
  rw [h1, h2]
  congr 1
  apply Int8.toBitVec_inj.mp
  have e1 : (Int64.ofNat s).toBitVec.smod 64 = BitVec.ofNat 64 s := by
    have : s = 0 ∨ s = 8 ∨ s = 16 ∨ s = 24 ∨ ¬ (s = 0 ∨ s = 8 ∨ s = 16 ∨ s = 24) := by omega
    rcases Nat.lt_or_ge s 25 with h | h
    · revert h1 h2; revert hs
      have : ∀ s, s < 25 → (Int64.ofNat s).toBitVec.smod 64 = BitVec.ofNat 64 s := by decide
      intros; exact this s h
    · omega
  have e2 : (Int32.ofNat s).toBitVec.smod 32 = BitVec.ofNat 32 s := by
    have : ∀ s, s < 25 → (Int32.ofNat s).toBitVec.smod 32 = BitVec.ofNat 32 s := by decide
    exact this s (by omega)
  apply BitVec.eq_of_getLsbD_eq
  intro i hi
  simp only [Int32.toBitVec_toInt8, Int64.toBitVec_toInt32, Int64.toBitVec_shiftRight, Int32.toBitVec_shiftRight, e1, e2, BitVec.getLsbD_signExtend, BitVec.sshiftRight', BitVec.getLsbD_sshiftRight, BitVec.toNat_ofNat]
  have m1 : s % 2 ^ 64 = s := Nat.mod_eq_of_lt (by omega)
  have m2 : s % 2 ^ 32 = s := Nat.mod_eq_of_lt (by omega)
  rw [m1, m2]
  simp only [show i < 8 from hi, show i < 32 by omega, show i < 64 by omega, show s + i < 32 by omega, show s + i < 64 by omega, show ¬ 64 ≤ i by omega, show ¬ 32 ≤ i by omega, decide_true, decide_false, Bool.not_false, Bool.true_and, if_true]
theorem byJ_0 (x : Int64) : byJ x 0 = by8 x.toInt32 0 := byJ_of x 0 0 (by decide) (by decide) (by decide)
theorem byJ_1 (x : Int64) : byJ x 1 = by8 x.toInt32 1 := byJ_of x 1 8 (by decide) (by decide) (by decide)
theorem byJ_2 (x : Int64) : byJ x 2 = by8 x.toInt32 2 := byJ_of x 2 16 (by decide) (by decide) (by decide)
theorem byJ_3 (x : Int64) : byJ x 3 = by8 x.toInt32 3 := byJ_of x 3 24 (by decide) (by decide) (by decide)
theorem bJ_1 (x : Int64) : bJ x 1 = b1 x.toInt32 := by show [byJ x 0] = _; rw [byJ_0]; rfl
theorem bJ_3 (x : Int64) : bJ x 3 = b3 x.toInt32 := by show [byJ x 2, byJ x 1, byJ x 0] = _; rw [byJ_0, byJ_1, byJ_2]; rfl
theorem bJ_4 (x : Int64) : bJ x 4 = b4 x.toInt32 := by show [byJ x 3, byJ x 2, byJ x 1, byJ x 0] = _; rw [byJ_0, byJ_1, byJ_2, byJ_3]; rfl
theorem byJ_hi (x : Int64) (k j : Int32) (s : Nat) (hs : s ≤ 24) (h1 : ((8 * k).toInt64 &&& 63) = Int64.ofNat (32 + s)) (h2 : (8 * j &&& 31) = Int32.ofNat s) : byJ x k = by8 (x >>> 32).toInt32 j := by
  unfold byJ by8
  rw [h1, h2]
  congr 1
  apply Int8.toBitVec_inj.mp
  have e1 : (Int64.ofNat (32 + s)).toBitVec.smod 64 = BitVec.ofNat 64 (32 + s) := by
    have : ∀ s, s < 25 → (Int64.ofNat (32 + s)).toBitVec.smod 64 = BitVec.ofNat 64 (32 + s) := by decide
    exact this s (by omega)
  have e2 : (Int32.ofNat s).toBitVec.smod 32 = BitVec.ofNat 32 s := by
    have : ∀ s, s < 25 → (Int32.ofNat s).toBitVec.smod 32 = BitVec.ofNat 32 s := by decide
    exact this s (by omega)
  have e3 : (32 : Int64).toBitVec.smod 64 = BitVec.ofNat 64 32 := by decide
  apply BitVec.eq_of_getLsbD_eq
  intro i hi
  simp only [Int32.toBitVec_toInt8, Int64.toBitVec_toInt32, Int64.toBitVec_shiftRight, Int32.toBitVec_shiftRight, e1, e2, e3, BitVec.getLsbD_signExtend, BitVec.sshiftRight', BitVec.getLsbD_sshiftRight, BitVec.toNat_ofNat]
  have m1 : (32 + s) % 2 ^ 64 = 32 + s := Nat.mod_eq_of_lt (by omega)
  have m2 : s % 2 ^ 32 = s := Nat.mod_eq_of_lt (by omega)
  have m3 : 32 % 2 ^ 64 = 32 := by decide
  rw [m1, m2, m3]
  simp only [show i < 8 from hi, show i < 32 by omega, show i < 64 by omega, show s + i < 32 by omega, show s + i < 64 by omega, show 32 + s + i < 64 by omega, show 32 + (s + i) < 64 by omega, show ¬ 64 ≤ i by omega, show ¬ 32 ≤ i by omega, show ¬ 64 ≤ s + i by omega, decide_true, decide_false, Bool.not_false, Bool.true_and, if_true, Nat.add_assoc]
theorem bJ_8 (x : Int64) : bJ x 8 = b4 (x >>> 32).toInt32 ++ b4 x.toInt32 := by
  show [byJ x 7, byJ x 6, byJ x 5, byJ x 4, byJ x 3, byJ x 2, byJ x 1, byJ x 0] = _
  rw [byJ_0, byJ_1, byJ_2, byJ_3, byJ_hi x 7 3 24 (by decide) (by decide) (by decide), byJ_hi x 6 2 16 (by decide) (by decide) (by decide), byJ_hi x 5 1 8 (by decide) (by decide) (by decide), byJ_hi x 4 0 0 (by decide) (by decide) (by decide)]
  rfl
theorem bJ_by (v : Int64) : ∀ n, z_by (bJ v n)
  | 0 => z_by_nil
  | n + 1 => z_by_cons (nb_nb _) (bJ_by v n)
