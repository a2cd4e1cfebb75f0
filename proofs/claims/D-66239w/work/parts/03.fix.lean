/-! PART 03: operations are tame (none, or one call of what follows; nothing made is unmade); the machine's fixed point -/
def z_mono (C : z_O) : Prop := ∀ y as σ σf r, C y as σ = some (σf, r) → al σ <+: al σf
def z_tame (o : z_Op) : Prop := ∀ C, z_mono C → ∀ ls st σ, (∀ k, o C ls st σ k = none) ∨ ∃ ls' st' σ1, al σ <+: al σ1 ∧ ∀ k, o C ls st σ k = k ls' st' σ1
theorem tm_pI {F : Int32 → z_Op} (h : ∀ x, z_tame (F x)) : z_tame (pI F) := by
  intro C hC ls st σ
  match st with
  | .inl x :: st => exact h x C hC ls st σ
  | [] => exact .inl fun _ => rfl
  | .inr _ :: _ => exact .inl fun _ => rfl
theorem tm_pJ {F : Int64 → z_Op} (h : ∀ x, z_tame (F x)) : z_tame (pJ F) := by
  intro C hC ls st σ
  match st with
  | .inr (.inl x) :: st => exact h x C hC ls st σ
  | [] => exact .inl fun _ => rfl
  | .inl _ :: _ => exact .inl fun _ => rfl
  | .inr (.inr _) :: _ => exact .inl fun _ => rfl
theorem tm_pR {F : Option z_Ad → z_Op} (h : ∀ x, z_tame (F x)) : z_tame (pR F) := by
  intro C hC ls st σ
  match st with
  | .inr (.inr x) :: st => exact h x C hC ls st σ
  | [] => exact .inl fun _ => rfl
  | .inl _ :: _ => exact .inl fun _ => rfl
  | .inr (.inl _) :: _ => exact .inl fun _ => rfl
theorem tm_pD {F : z_Ad → z_Op} (h : ∀ x, z_tame (F x)) : z_tame (pD F) := by
  refine tm_pR fun r => ?_
  intro C hC ls st σ
  match r with
  | some q => exact h q C hC ls st σ
  | none => exact .inl fun _ => rfl
theorem tm_ck {b : Prop} [Decidable b] {o : z_Op} (h : z_tame o) : z_tame (ck b o) := by
  intro C hC ls st σ
  by_cases hb : b
  · have e : ∀ k, ck b o C ls st σ k = o C ls st σ k := fun k => if_pos hb
    rcases h C hC ls st σ with h | ⟨a, b, c, h1, h2⟩
    · exact .inl fun k => (e k).trans (h k)
    · exact .inr ⟨a, b, c, h1, fun k => (e k).trans (h2 k)⟩
  · exact .inl fun k => if_neg hb
theorem tm_cw {o : z_Op} (h : z_tame o) : z_tame (cw o) := by
  intro C hC ls st σ
  by_cases hb : z_w st ≤ 8
  · have e : ∀ k, cw o C ls st σ k = o C ls st σ k := fun k => if_pos hb
    rcases h C hC ls st σ with h | ⟨a, b, c, h1, h2⟩
    · exact .inl fun k => (e k).trans (h k)
    · exact .inr ⟨a, b, c, h1, fun k => (e k).trans (h2 k)⟩
  · exact .inl fun k => if_neg hb
theorem tm_psh (v : z_V) : z_tame (psh v) := fun _ _ ls st σ => .inr ⟨ls, v :: st, σ, List.prefix_rfl, fun _ => rfl⟩
theorem tm_ps2 (v w : z_V) : z_tame (ps2 v w) := fun _ _ ls st σ => .inr ⟨ls, v :: w :: st, σ, List.prefix_rfl, fun _ => rfl⟩
theorem tm_ps3 (v w u : z_V) : z_tame (ps3 v w u) := fun _ _ ls st σ => .inr ⟨ls, v :: w :: u :: st, σ, List.prefix_rfl, fun _ => rfl⟩
theorem tm_ps4 (v w u t : z_V) : z_tame (ps4 v w u t) := fun _ _ ls st σ => .inr ⟨ls, v :: w :: u :: t :: st, σ, List.prefix_rfl, fun _ => rfl⟩
theorem tm_skp : z_tame skp := fun _ _ ls st σ => .inr ⟨ls, st, σ, List.prefix_rfl, fun _ => rfl⟩
theorem tm_rd {F : z_St → z_Op} (h : ∀ σ, z_tame (F σ)) : z_tame (rd F) := fun C hC ls st σ => h σ C hC ls st σ
theorem tm_wr {G : z_St → z_St} (h : ∀ σ, al (G σ) = al σ) : z_tame (wr G) := fun _ _ ls st σ => .inr ⟨ls, st, G σ, by rw [h σ]; exact List.prefix_rfl, fun _ => rfl⟩
theorem tm_lI {n : Nat} {F : Int32 → z_Op} (h : ∀ x, z_tame (F x)) : z_tame (lI n F) := by
  intro C hC ls st σ
  unfold lI
  match z_get ls n with
  | some (.inl x) => exact h x C hC ls st σ
  | none => exact .inl fun _ => rfl
  | some (.inr _) => exact .inl fun _ => rfl
theorem tm_lJ {n : Nat} {F : Int64 → z_Op} (h : ∀ x, z_tame (F x)) : z_tame (lJ n F) := by
  intro C hC ls st σ
  unfold lJ
  match z_get ls n with
  | some (.inr (.inl x)) => exact h x C hC ls st σ
  | none => exact .inl fun _ => rfl
  | some (.inl _) => exact .inl fun _ => rfl
  | some (.inr (.inr _)) => exact .inl fun _ => rfl
theorem tm_lR {n : Nat} {F : Option z_Ad → z_Op} (h : ∀ x, z_tame (F x)) : z_tame (lR n F) := by
  intro C hC ls st σ
  unfold lR
  match z_get ls n with
  | some (.inr (.inr x)) => exact h x C hC ls st σ
  | none => exact .inl fun _ => rfl
  | some (.inl _) => exact .inl fun _ => rfl
  | some (.inr (.inl _)) => exact .inl fun _ => rfl
theorem tm_s1 (n : Nat) (v : z_V) : z_tame (s1 n v) := fun _ _ ls st σ => .inr ⟨z_st1 ls n v, st, σ, List.prefix_rfl, fun _ => rfl⟩
theorem tm_s2 (n : Nat) (v : z_V) : z_tame (s2 n v) := fun _ _ ls st σ => .inr ⟨z_st2 ls n v, st, σ, List.prefix_rfl, fun _ => rfl⟩
theorem tm_mkO (a : Nat) : z_tame (mkO a) := fun _ _ ls st σ => .inr ⟨ls, _, nO σ a (cn σ a + z_off a), List.prefix_append _ _, fun _ => rfl⟩
theorem tm_mkA (a : Nat) : z_tame (mkA a) := fun _ _ ls st σ => .inr ⟨ls, _, nA σ a (cn σ a + z_off a), List.prefix_append _ _, fun _ => rfl⟩
theorem tm_mkV (a : Nat) : z_tame (mkV a) := fun _ _ ls st σ => .inr ⟨ls, _, rR (nA σ a (cn σ a + z_off a)) a (cn σ a + z_off a) _, List.prefix_append _ _, fun _ => rfl⟩
theorem tm_pA {n : Nat} {F : List z_V → z_Op} (h : ∀ x, z_tame (F x)) : z_tame (pA n F) := by
  intro C hC ls st σ
  unfold pA
  match z_take n [] st with
  | some (as, st) => exact h as C hC ls st σ
  | none => exact .inl fun _ => rfl
theorem tm_clv (y : Nat) (as : List z_V) : z_tame (clv y as) := by
  intro C hC ls st σ
  unfold clv
  match hx : C y as σ with
  | some (σ1, none) => exact .inr ⟨ls, st, σ1, hC _ _ _ _ _ hx, fun _ => rfl⟩
  | some (σ1, some _) => exact .inl fun _ => rfl
  | none => exact .inl fun _ => rfl
theorem tm_clr (y : Nat) (as : List z_V) : z_tame (clr y as) := by
  intro C hC ls st σ
  unfold clr
  match hx : C y as σ with
  | some (σ1, some v) => exact .inr ⟨ls, v :: st, σ1, hC _ _ _ _ _ hx, fun _ => rfl⟩
  | some (σ1, none) => exact .inl fun _ => rfl
  | none => exact .inl fun _ => rfl
/-! every operation -/
theorem tz_ldI (n : Nat) : z_tame (zo_ldI n) := tm_lI fun _ => tm_psh _
theorem tz_ldJ (n : Nat) : z_tame (zo_ldJ n) := tm_lJ fun _ => tm_psh _
theorem tz_ldA (n : Nat) : z_tame (zo_ldA n) := tm_lR fun _ => tm_psh _
theorem tz_stI (n : Nat) : z_tame (zo_stI n) := tm_pI fun _ => tm_s1 _ _
theorem tz_stJ (n : Nat) : z_tame (zo_stJ n) := tm_pJ fun _ => tm_s2 _ _
theorem tz_stA (n : Nat) : z_tame (zo_stA n) := tm_pR fun _ => tm_s1 _ _
theorem tz_inc (n : Nat) (c : Int32) : z_tame (zo_inc n c) := tm_lI fun _ => tm_s1 _ _
theorem tz_cI (c : Int32) : z_tame (zo_cI c) := tm_psh _
theorem tz_cJ (c : Int64) : z_tame (zo_cJ c) := tm_psh _
theorem tz_null : z_tame zo_null := tm_psh _
theorem tz_dupI : z_tame zo_dupI := tm_pI fun _ => tm_ps2 _ _
theorem tz_dupR : z_tame zo_dupR := tm_pR fun _ => tm_ps2 _ _
theorem tz_dupx1 : z_tame zo_dupx1 := tm_pI fun _ => tm_pR fun _ => tm_ps3 _ _ _
theorem tz_dup2 : z_tame zo_dup2 := tm_pI fun _ => tm_pR fun _ => tm_ps4 _ _ _ _
theorem tz_ii (f : Int32 → Int32 → Int32) : z_tame (zo_ii f) := tm_pI fun _ => tm_pI fun _ => tm_psh _
theorem tz_div : z_tame zo_div := tm_pI fun _ => tm_pI fun _ => tm_ck (tm_psh _)
theorem tz_rem : z_tame zo_rem := tm_pI fun _ => tm_pI fun _ => tm_ck (tm_psh _)
theorem tz_i2b : z_tame zo_i2b := tm_pI fun _ => tm_psh _
theorem tz_jj (f : Int64 → Int64 → Int64) : z_tame (zo_jj f) := tm_pJ fun _ => tm_pJ fun _ => tm_psh _
theorem tz_lneg : z_tame zo_lneg := tm_pJ fun _ => tm_psh _
theorem tz_lshl : z_tame zo_lshl := tm_pI fun _ => tm_pJ fun _ => tm_psh _
theorem tz_lshr : z_tame zo_lshr := tm_pI fun _ => tm_pJ fun _ => tm_psh _
theorem tz_i2l : z_tame zo_i2l := tm_pI fun _ => tm_psh _
theorem tz_l2i : z_tame zo_l2i := tm_pJ fun _ => tm_psh _
theorem tz_lcmp : z_tame zo_lcmp := tm_pJ fun _ => tm_pJ fun _ => tm_psh _
theorem tz_maxJ : z_tame zo_maxJ := tm_pJ fun _ => tm_pJ fun _ => tm_cw (tm_psh _)
theorem tz_minJ : z_tame zo_minJ := tm_pJ fun _ => tm_pJ fun _ => tm_cw (tm_psh _)
theorem tz_gI (a b : Nat) : z_tame (zo_gI a b) := tm_pD fun _ => tm_ck (tm_rd fun _ => tm_psh _)
theorem tz_gJ (a b : Nat) : z_tame (zo_gJ a b) := tm_pD fun _ => tm_ck (tm_rd fun _ => tm_psh _)
theorem tz_gR (a b : Nat) : z_tame (zo_gR a b) := tm_pD fun _ => tm_ck (tm_rd fun _ => tm_psh _)
theorem tz_pI (a b : Nat) : z_tame (zo_pI a b) := tm_pI fun _ => tm_pD fun _ => tm_ck (tm_wr fun _ => rfl)
theorem tz_pZ (a b : Nat) : z_tame (zo_pZ a b) := tm_pI fun _ => tm_pD fun _ => tm_ck (tm_ck (tm_wr fun _ => rfl))
theorem tz_pJ (a b : Nat) : z_tame (zo_pJ a b) := tm_pJ fun _ => tm_pD fun _ => tm_ck (tm_wr fun _ => rfl)
theorem tz_pR (a b : Nat) : z_tame (zo_pR a b) := tm_pR fun _ => tm_pD fun _ => tm_ck (tm_wr fun _ => rfl)
theorem tz_gC (f : List Int32) : z_tame (zo_gC f) := tm_pD fun _ => tm_ck (tm_psh _)
theorem tz_gW : z_tame zo_gW := tm_pD fun _ => tm_ck (tm_psh _)
theorem tz_aldW : z_tame zo_aldW := tm_pI fun _ => tm_pD fun _ => tm_ck (tm_ck (tm_psh _))
theorem tz_lenW : z_tame zo_lenW := tm_pD fun _ => tm_ck (tm_psh _)
theorem tz_stC (i : Nat) : z_tame (zo_stC i) := tm_psh _
theorem tz_aldI (t : Nat) : z_tame (zo_aldI t) := tm_pI fun _ => tm_pD fun _ => tm_ck (tm_ck (tm_rd fun _ => tm_psh _))
theorem tz_aldJ : z_tame zo_aldJ := tm_pI fun _ => tm_pD fun _ => tm_ck (tm_ck (tm_rd fun _ => tm_psh _))
theorem tz_aldR : z_tame zo_aldR := tm_pI fun _ => tm_pD fun _ => tm_ck (tm_ck (tm_rd fun _ => tm_psh _))
theorem tz_astI : z_tame zo_astI := tm_pI fun _ => tm_pI fun _ => tm_pD fun _ => tm_ck (tm_ck (tm_wr fun _ => rfl))
theorem tz_astB : z_tame zo_astB := tm_pI fun _ => tm_pI fun _ => tm_pD fun _ => tm_ck (tm_ck (tm_wr fun _ => rfl))
theorem tz_astZ : z_tame zo_astZ := tm_pI fun _ => tm_pI fun _ => tm_pD fun _ => tm_ck (tm_ck (tm_wr fun _ => rfl))
theorem tz_astJ : z_tame zo_astJ := tm_pJ fun _ => tm_pI fun _ => tm_pD fun _ => tm_ck (tm_ck (tm_wr fun _ => rfl))
theorem tz_astR : z_tame zo_astR := tm_pD fun _ => tm_pI fun _ => tm_pD fun _ => tm_ck (tm_ck (tm_wr fun _ => rfl))
theorem tz_len : z_tame zo_len := tm_pD fun _ => tm_ck (tm_psh _)
theorem tz_sld : z_tame zo_sld := tm_pI fun _ => tm_pD fun _ => tm_ck (tm_rd fun _ => tm_ck (tm_psh _))
theorem tz_slen : z_tame zo_slen := tm_pD fun _ => tm_ck (tm_rd fun _ => tm_psh _)
theorem tz_copy : z_tame zo_copy := tm_pI fun _ => tm_pI fun _ => tm_pD fun _ => tm_pI fun _ => tm_pD fun _ => tm_ck (tm_ck (tm_cw (tm_wr fun _ => rfl)))
theorem tz_new (a : Nat) : z_tame (zo_new a) := tm_mkO a
theorem tz_newA (a : Nat) (c : Int32) : z_tame (zo_newA a c) := tm_pI fun _ => tm_ck (tm_mkA a)
theorem tz_obj : z_tame zo_obj := tm_pD fun _ => tm_cw tm_skp
theorem tz_vals (a : Nat) : z_tame (zo_vals a) := tm_cw (tm_mkV a)
theorem tz_cvV (y n a : Nat) : z_tame (zo_cvV y n a) := tm_pA fun _ => tm_pD fun _ => tm_ck (tm_cw (tm_clv _ _))
theorem tz_crV (y n a : Nat) : z_tame (zo_crV y n a) := tm_pA fun _ => tm_pD fun _ => tm_ck (tm_cw (tm_clr _ _))
theorem tz_cvS (y n : Nat) : z_tame (zo_cvS y n) := tm_pA fun _ => tm_cw (tm_clv _ _)
theorem tz_crS (y n : Nat) : z_tame (zo_crS y n) := tm_pA fun _ => tm_cw (tm_clr _ _)
/-! ends of blocks -/
def z_tameT (t : z_Tm) : Prop := ∀ ls st σ, (∃ x, (∀ j, t ls st σ j = x) ∧ ∀ σf r, x = some (σf, r) → al σ <+: al σf) ∨ ∃ b ls' st', ∀ j, t ls st σ j = j b ls' st' σ
theorem tt_no {t : z_Tm} {ls : z_L} {st : List z_V} {σ : z_St} (h : ∀ j, t ls st σ j = none) : (∃ x, (∀ j, t ls st σ j = x) ∧ ∀ σf r, x = some (σf, r) → al σ <+: al σf) ∨ ∃ b ls' st', ∀ j, t ls st σ j = j b ls' st' σ :=
  .inl ⟨none, h, fun _ _ e => by cases e⟩
theorem tt_end {t : z_Tm} {ls : z_L} {st : List z_V} {σ : z_St} (r : Option z_V) (h : ∀ j, t ls st σ j = some (σ, r)) : (∃ x, (∀ j, t ls st σ j = x) ∧ ∀ σf r, x = some (σf, r) → al σ <+: al σf) ∨ ∃ b ls' st', ∀ j, t ls st σ j = j b ls' st' σ :=
  .inl ⟨some (σ, r), h, fun _ _ e => by cases e; exact List.prefix_rfl⟩
theorem tz_goto (b : Nat) (m : List Bool) : z_tameT (zt_goto b m) := fun ls st σ => .inr ⟨b, z_mask m ls, st, fun _ => rfl⟩
theorem tz_if (p : Int32 → Prop) [DecidablePred p] (b1 : Nat) (m1 : List Bool) (b2 : Nat) (m2 : List Bool) : z_tameT (zt_if p b1 m1 b2 m2) := by
  intro ls st σ
  match st with
  | .inl x :: st =>
    by_cases h : p x
    · exact .inr ⟨b1, z_mask m1 ls, st, fun j => if_pos h⟩
    · exact .inr ⟨b2, z_mask m2 ls, st, fun j => if_neg h⟩
  | [] => exact tt_no fun _ => rfl
  | .inr _ :: _ => exact tt_no fun _ => rfl
theorem tz_icmp (p : Int32 → Int32 → Prop) [∀ x y, Decidable (p x y)] (b1 : Nat) (m1 : List Bool) (b2 : Nat) (m2 : List Bool) : z_tameT (zt_icmp p b1 m1 b2 m2) := by
  intro ls st σ
  match st with
  | .inl y :: .inl x :: st =>
    by_cases h : p x y
    · exact .inr ⟨b1, z_mask m1 ls, st, fun j => if_pos h⟩
    · exact .inr ⟨b2, z_mask m2 ls, st, fun j => if_neg h⟩
  | [] => exact tt_no fun _ => rfl
  | .inr _ :: _ => exact tt_no fun _ => rfl
  | [.inl _] => exact tt_no fun _ => rfl
  | .inl _ :: .inr _ :: _ => exact tt_no fun _ => rfl
theorem tz_nul (b1 : Nat) (m1 : List Bool) (b2 : Nat) (m2 : List Bool) : z_tameT (zt_null b1 m1 b2 m2) := by
  intro ls st σ
  match st with
  | .inr (.inr x) :: st =>
    by_cases h : x = none
    · exact .inr ⟨b1, z_mask m1 ls, st, fun j => if_pos h⟩
    · exact .inr ⟨b2, z_mask m2 ls, st, fun j => if_neg h⟩
  | [] => exact tt_no fun _ => rfl
  | .inl _ :: _ => exact tt_no fun _ => rfl
  | .inr (.inl _) :: _ => exact tt_no fun _ => rfl
theorem tz_acmp (b1 : Nat) (m1 : List Bool) (b2 : Nat) (m2 : List Bool) : z_tameT (zt_acmp b1 m1 b2 m2) := by
  intro ls st σ
  match st with
  | .inr (.inr y) :: .inr (.inr x) :: st =>
    by_cases h0 : z_dyn x = true ∧ z_dyn y = true
    · by_cases h : x = y
      · exact .inr ⟨b1, z_mask m1 ls, st, fun j => (if_pos h0).trans (if_pos h)⟩
      · exact .inr ⟨b2, z_mask m2 ls, st, fun j => (if_pos h0).trans (if_neg h)⟩
    · exact tt_no fun _ => if_neg h0
  | [] => exact tt_no fun _ => rfl
  | .inl _ :: _ => exact tt_no fun _ => rfl
  | .inr (.inl _) :: _ => exact tt_no fun _ => rfl
  | [.inr (.inr _)] => exact tt_no fun _ => rfl
  | .inr (.inr _) :: .inl _ :: _ => exact tt_no fun _ => rfl
  | .inr (.inr _) :: .inr (.inl _) :: _ => exact tt_no fun _ => rfl
theorem z_pick_tame (d : Nat × List Bool) (x : Int32) (ls : z_L) (st : List z_V) (σ : z_St) : ∀ cs, ∃ b ls' st', ∀ j, z_pick d x ls st σ j cs = j b ls' st' σ
  | [] => ⟨d.1, z_mask d.2 ls, st, fun _ => rfl⟩
  | c :: cs => by
    by_cases h : x = c.1
    · exact ⟨c.2.1, z_mask c.2.2 ls, st, fun j => if_pos h⟩
    · obtain ⟨b, ls', st', e⟩ := z_pick_tame d x ls st σ cs
      exact ⟨b, ls', st', fun j => (if_neg h).trans (e j)⟩
theorem tz_sw (cs : List (Int32 × Nat × List Bool)) (d : Nat × List Bool) : z_tameT (zt_sw cs d) := by
  intro ls st σ
  match st with
  | .inl x :: st => exact .inr (z_pick_tame d x ls st σ cs)
  | [] => exact tt_no fun _ => rfl
  | .inr _ :: _ => exact tt_no fun _ => rfl
theorem tz_iret : z_tameT zt_iret := by
  intro ls st σ
  match st with
  | [.inl x] => exact tt_end _ fun _ => rfl
  | [] => exact tt_no fun _ => rfl
  | .inr _ :: _ => exact tt_no fun _ => rfl
  | .inl _ :: _ :: _ => exact tt_no fun _ => rfl
theorem tz_zret : z_tameT zt_zret := by
  intro ls st σ
  match st with
  | [.inl x] =>
    by_cases h : x = 0 ∨ x = 1
    · exact tt_end (some (.inl x)) fun _ => if_pos h
    · exact tt_no fun _ => if_neg h
  | [] => exact tt_no fun _ => rfl
  | .inr _ :: _ => exact tt_no fun _ => rfl
  | .inl _ :: _ :: _ => exact tt_no fun _ => rfl
theorem tz_lret : z_tameT zt_lret := by
  intro ls st σ
  match st with
  | [.inr (.inl x)] => exact tt_end _ fun _ => rfl
  | [] => exact tt_no fun _ => rfl
  | .inl _ :: _ => exact tt_no fun _ => rfl
  | .inr (.inr _) :: _ => exact tt_no fun _ => rfl
  | .inr (.inl _) :: _ :: _ => exact tt_no fun _ => rfl
theorem tz_aret : z_tameT zt_aret := by
  intro ls st σ
  match st with
  | [.inr (.inr x)] => exact tt_end _ fun _ => rfl
  | [] => exact tt_no fun _ => rfl
  | .inl _ :: _ => exact tt_no fun _ => rfl
  | .inr (.inl _) :: _ => exact tt_no fun _ => rfl
  | .inr (.inr _) :: _ :: _ => exact tt_no fun _ => rfl
theorem tz_vret : z_tameT zt_vret := by
  intro ls st σ
  match st with
  | [] => exact tt_end _ fun _ => rfl
  | _ :: _ => exact tt_no fun _ => rfl
/-! blocks, iteration, the fixed point -/
theorem z_run_tame {t : z_Tm} (ht : z_tameT t) {C : z_O} (hC : z_mono C) : ∀ {os : List z_Op} (_ : ∀ o ∈ os, z_tame o) (ls : z_L) (st : List z_V) (σ : z_St),
    (∃ x, (∀ j, z_run os t C ls st σ j = x) ∧ ∀ σf r, x = some (σf, r) → al σ <+: al σf) ∨ ∃ b ls' st' σ1, al σ <+: al σ1 ∧ ∀ j, z_run os t C ls st σ j = j b ls' st' σ1
  | [], _, ls, st, σ => by
    rcases ht ls st σ with ⟨x, h1, h2⟩ | ⟨b, l, s, h⟩
    · exact .inl ⟨x, h1, h2⟩
    · exact .inr ⟨b, l, s, σ, List.prefix_rfl, h⟩
  | o :: os, ho, ls, st, σ => by
    rcases ho o List.mem_cons_self C hC ls st σ with h | ⟨l1, s1, σ1, hp, h⟩
    · exact .inl ⟨none, fun j => h _, fun _ _ e => by cases e⟩
    · rcases z_run_tame ht hC (fun o' h' => ho o' (List.mem_cons_of_mem _ h')) l1 s1 σ1 with ⟨x, h1, h2⟩ | ⟨b, l, s, σ2, h1, h2⟩
      · exact .inl ⟨x, fun j => (h _).trans (h1 j), fun σf r e => hp.trans (h2 σf r e)⟩
      · exact .inr ⟨b, l, s, σ2, hp.trans h1, fun j => (h _).trans (h2 j)⟩
/-- a method whose blocks are tame -/
def z_tameM (P : z_M) : Prop := ∀ b, (∀ o ∈ (P b).1, z_tame o) ∧ z_tameT (P b).2
theorem z_it_mono {P : z_M} (hP : z_tameM P) {C : z_O} (hC : z_mono C) : ∀ (n k b : Nat) (ls : z_L) (st : List z_V) (σ : z_St) (r : z_R), z_it P C n b ls st σ = some r → z_it P C (n + k) b ls st σ = some r
  | 0, _, _, _, _, _, _, h => by cases h
  | n + 1, k, b, ls, st, σ, r, h => by
    rw [Nat.add_right_comm]
    show z_run (P b).1 (P b).2 C ls st σ (z_it P C (n + k)) = some r
    have h : z_run (P b).1 (P b).2 C ls st σ (z_it P C n) = some r := h
    rcases z_run_tame (hP b).2 hC (hP b).1 ls st σ with ⟨x, h1, -⟩ | ⟨b', l, s, σ2, -, h2⟩
    · rw [h1] at h ⊢
      exact h
    · rw [h2] at h ⊢
      exact z_it_mono hP hC n k _ _ _ _ _ h
theorem z_it_pre {P : z_M} (hP : z_tameM P) {C : z_O} (hC : z_mono C) : ∀ (n b : Nat) (ls : z_L) (st : List z_V) (σ σf : z_St) (r : Option z_V), z_it P C n b ls st σ = some (σf, r) → al σ <+: al σf
  | 0, _, _, _, _, _, _, h => by cases h
  | n + 1, b, ls, st, σ, σf, r, h => by
    have h : z_run (P b).1 (P b).2 C ls st σ (z_it P C n) = some (σf, r) := h
    rcases z_run_tame (hP b).2 hC (hP b).1 ls st σ with ⟨x, h1, h2⟩ | ⟨b', l, s, σ2, h1, h2⟩
    · rw [h1] at h
      exact h2 _ _ h
    · rw [h2] at h
      exact h1.trans (z_it_pre hP hC n _ _ _ _ _ _ h)
theorem E_iff {P : z_M} (hP : z_tameM P) {C : z_O} (hC : z_mono C) {b : Nat} {ls : z_L} {st : List z_V} {σ : z_St} {r : z_R} : E P C b ls st σ = some r ↔ ∃ n, z_it P C n b ls st σ = some r := by
  unfold E
  by_cases h : ∃ n r, z_it P C n b ls st σ = some r
  · rw [dif_pos h]
    have hs := Classical.choose_spec (Classical.choose_spec h)
    constructor
    · intro e
      rw [← e]
      exact ⟨_, hs⟩
    · rintro ⟨n, e⟩
      have h1 := z_it_mono hP hC _ n _ _ _ _ _ hs
      have h2 := z_it_mono hP hC _ (Classical.choose h) _ _ _ _ _ e
      rw [Nat.add_comm] at h2
      exact h1.symm.trans h2
  · rw [dif_neg h]
    constructor
    · intro e; cases e
    · rintro ⟨n, e⟩; exact absurd ⟨n, r, e⟩ h
theorem E_fix {P : z_M} (hP : z_tameM P) {C : z_O} (hC : z_mono C) (b : Nat) (ls : z_L) (st : List z_V) (σ : z_St) : E P C b ls st σ = z_run (P b).1 (P b).2 C ls st σ (E P C) := by
  apply Option.ext
  intro r
  rw [E_iff hP hC]
  rcases z_run_tame (hP b).2 hC (hP b).1 ls st σ with ⟨x, h1, -⟩ | ⟨b', l, s, σ2, -, h2⟩
  · rw [h1]
    constructor
    · rintro ⟨n, e⟩
      cases n with
      | zero => cases e
      | succ n => exact (h1 _).symm.trans e
    · intro e
      exact ⟨1, (h1 _).trans e⟩
  · rw [h2, E_iff hP hC]
    constructor
    · rintro ⟨n, e⟩
      cases n with
      | zero => cases e
      | succ n => exact ⟨n, (h2 _).symm.trans e⟩
    · rintro ⟨n, e⟩
      exact ⟨n + 1, (h2 _).trans e⟩
theorem E_pre {P : z_M} (hP : z_tameM P) {C : z_O} (hC : z_mono C) {b : Nat} {ls : z_L} {st : List z_V} {σ σf : z_St} {r : Option z_V} (h : E P C b ls st σ = some (σf, r)) : al σ <+: al σf := by
  obtain ⟨n, h⟩ := (E_iff hP hC).mp h
  exact z_it_pre hP hC _ _ _ _ _ _ _ h
/-- all methods, by depth of calls -/
noncomputable def z_D (pg : Nat → z_M) (nl : Nat → Nat) : Nat → z_O
  | 0 => fun _ _ _ => none
  | d + 1 => fun y as σ => gd ((z_arg as).length ≤ nl y) (E (pg y) (z_D pg nl d) 0 (z_pad (nl y) (z_arg as)) [] σ)
theorem z_D_mono {pg : Nat → z_M} {nl : Nat → Nat} (hp : ∀ y, z_tameM (pg y)) : ∀ d, z_mono (z_D pg nl d)
  | 0 => fun _ _ _ _ _ h => by cases h
  | d + 1 => fun y as σ σf r h => by
    have h : gd ((z_arg as).length ≤ nl y) (E (pg y) (z_D pg nl d) 0 (z_pad (nl y) (z_arg as)) [] σ) = some (σf, r) := h
    by_cases hb : (z_arg as).length ≤ nl y
    · exact E_pre (hp y) (z_D_mono hp d) ((if_pos hb).symm.trans h)
    · have h := (if_neg hb).symm.trans h
      cases h
theorem tz_none : z_tameT zt_none := fun _ _ _ => tt_no fun _ => rfl
