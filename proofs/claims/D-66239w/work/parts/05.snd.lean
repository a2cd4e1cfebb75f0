/-! PART 05: the operations are sound, one by one -/
theorem sl_app : ∀ l1 l2 : List z_Ad, z_sl (l1 ++ l2) = z_sl l1 + z_sl l2
  | [], l2 => by rw [List.nil_append]; exact (Nat.zero_add _).symm
  | q :: l1, l2 => by
    show _ + z_sl (l1 ++ l2) = _ + z_sl l1 + z_sl l2
    rw [sl_app l1 l2, Nat.add_assoc]
theorem sl_pre {l1 l2 : List z_Ad} (h : l1 <+: l2) : l1.length ≤ l2.length ∧ z_sl l1 ≤ z_sl l2 := by
  obtain ⟨t, rfl⟩ := h
  rw [sl_app, List.length_append]
  exact ⟨Nat.le_add_right _ _, Nat.le_add_right _ _⟩
theorem prs_t {φ : z_Ad → Nat} (r : Option z_Ad) : va_rf (r.map φ) = rv φ (.inr (.inr r)) := rfl
theorem own_O {σ : z_St} {a b n : Nat} (ha : a < 16) (h : (a, n) ∈ al σ) : z_own a b n ∈ al σ := by
  unfold z_own
  rw [if_pos ha]
  exact h
theorem own_A {σ : z_St} {q : z_Ad} {n : Nat} (ha : 16 ≤ q.1) (h : q ∈ al σ) : z_own q.1 q.2 n ∈ al σ := by
  unfold z_own
  rw [if_neg (by omega)]
  exact h
/-- only what belongs to q differs -/
def z_only (σ σ' : z_St) (q : z_Ad) : Prop := al σ' = al σ ∧ cn σ' = cn σ ∧ ∀ a b n, z_own a b n ≠ q → gI σ' a b n = gI σ a b n ∧ gJ σ' a b n = gJ σ a b n ∧ gR σ' a b n = gR σ a b n
theorem only_cell {G : z_G} {φ : z_Ad → Nat} {σ σ' : z_St} {q : z_Ad} (h : z_only σ σ' q) {q' : z_Ad} (hne : q' ≠ q) : z_cell G φ σ' q' = z_cell G φ σ q' := by
  unfold z_cell
  by_cases h16 : q'.1 < 16
  · rw [if_pos h16, if_pos h16]
    have e : z_fs φ σ' q'.1 q'.2 = z_fs φ σ q'.1 q'.2 := by
      unfold z_fs
      apply List.map_congr_left
      intro b _
      obtain ⟨e1, e2, e3⟩ := h.2.2 q'.1 b q'.2 (by unfold z_own; rw [if_pos h16]; exact hne)
      unfold z_fv
      rw [e1, e2, e3]
    rw [e]
  · rw [if_neg h16, if_neg h16]
    have e : z_arr φ σ' q' = z_arr φ σ q' := by
      have k : ∀ n, z_own q'.1 q'.2 n ≠ q := fun n => by unfold z_own; rw [if_neg h16]; exact hne
      have e1 : gI σ' q'.1 q'.2 = gI σ q'.1 q'.2 := funext fun n => (h.2.2 _ _ n (k n)).1
      have e2 : gJ σ' q'.1 q'.2 = gJ σ q'.1 q'.2 := funext fun n => (h.2.2 _ _ n (k n)).2.1
      have e3 : gR σ' q'.1 q'.2 = gR σ q'.1 q'.2 := funext fun n => (h.2.2 _ _ n (k n)).2.2
      unfold z_arr
      rw [e1, e2, e3]
    rw [e]
theorem kind14 {a : Nat} (h : z_kind a) : a ≠ 14 := by
  rintro rfl
  rcases h with h | h
  · omega
  · have := h.1; simp [aTy] at this
theorem rel_put {G : z_G} {s : State} {A : Nat → Prop} {φ0 : z_Ad → Nat} {σ0 σ σ' : z_St} {φ : z_Ad → Nat} {H H1 : Heap} {locs locs1 : List Loc} {q : z_Ad} {i : Nat} (hr : z_rel G s A φ0 σ0 φ σ H locs) (ho : z_only σ σ' q) (hi : (al σ)[i]? = some q) (hok : z_ok σ')
    (hP : va_P (z_D2 G) z_CL ((z_ws G φ σ).set i (φ q, z_cell G φ σ' q)) H1) (hD : va_D A ((z_ws G φ σ).set i (φ q, z_cell G φ σ' q))) (hS : va_S A s.heap H1 locs1) : z_rel G s A φ0 σ0 φ σ' H1 locs1 := by
  obtain ⟨-, -, -, k1, k2, k3, k4, k5, k6, k7⟩ := hr
  have e := ws_set (G := G) (φ := φ) k1.1 ho.1 hi (fun q' _ hne => only_cell ho hne)
  rw [e] at hP hD
  have e14 : gI σ' 14 0 = gI σ 14 0 := funext fun n => (ho.2.2 14 0 n (by
    unfold z_own
    rw [if_pos (by decide)]
    intro e
    exact kind14 (k1.2.1 q (List.mem_of_getElem? hi)).2 (by rw [← e]))).1
  refine ⟨hP, hD, hS, hok, k2, ?_, by rw [ho.1]; exact k4, k5, by rw [ho.2.1]; exact k6, by rw [e14]; exact k7⟩
  rw [e14, ho.2.1]
  exact k3
theorem row_at {α : Type} (f : Nat → Nat → Nat → α) (a b : Nat) (r : Nat → α) (a' b' n : Nat) : z_row f a b r a' b' n = if a' = a ∧ b' = b then r n else f a' b' n := by
  unfold z_row
  split <;> rfl
theorem gI_rI (σ : z_St) (a b : Nat) (r : Nat → Int32) (a' b' n : Nat) : gI (rI σ a b r) a' b' n = if a' = a ∧ b' = b then r n else gI σ a' b' n := row_at _ _ _ _ _ _ _
theorem gJ_rJ (σ : z_St) (a b : Nat) (r : Nat → Int64) (a' b' n : Nat) : gJ (rJ σ a b r) a' b' n = if a' = a ∧ b' = b then r n else gJ σ a' b' n := row_at _ _ _ _ _ _ _
theorem gR_rR (σ : z_St) (a b : Nat) (r : Nat → Option z_Ad) (a' b' n : Nat) : gR (rR σ a b r) a' b' n = if a' = a ∧ b' = b then r n else gR σ a' b' n := row_at _ _ _ _ _ _ _
theorem only_fI {σ : z_St} {a b n : Nat} {x : Int32} (ha : a < 16) : z_only σ (rI σ a b (va_up (gI σ a b) n x)) (a, n) := by
  refine ⟨rfl, rfl, fun a' b' n' h => ⟨?_, rfl, rfl⟩⟩
  rw [gI_rI]
  split
  · rename_i e
    unfold va_up
    rw [if_neg]
    · rw [e.1, e.2]
    · intro en
      apply h
      unfold z_own
      rw [if_pos (by omega), e.1, en]
  · rfl
theorem only_fJ {σ : z_St} {a b n : Nat} {x : Int64} (ha : a < 16) : z_only σ (rJ σ a b (va_up (gJ σ a b) n x)) (a, n) := by
  refine ⟨rfl, rfl, fun a' b' n' h => ⟨rfl, ?_, rfl⟩⟩
  rw [gJ_rJ]
  split
  · rename_i e
    unfold va_up
    rw [if_neg]
    · rw [e.1, e.2]
    · intro en
      apply h
      unfold z_own
      rw [if_pos (by omega), e.1, en]
  · rfl
theorem only_fR {σ : z_St} {a b n : Nat} {x : Option z_Ad} (ha : a < 16) : z_only σ (rR σ a b (va_up (gR σ a b) n x)) (a, n) := by
  refine ⟨rfl, rfl, fun a' b' n' h => ⟨rfl, rfl, ?_⟩⟩
  rw [gR_rR]
  split
  · rename_i e
    unfold va_up
    rw [if_neg]
    · rw [e.1, e.2]
    · intro en
      apply h
      unfold z_own
      rw [if_pos (by omega), e.1, en]
  · rfl
theorem only_aI {σ : z_St} {q : z_Ad} {r : Nat → Int32} (ha : 16 ≤ q.1) : z_only σ (rI σ q.1 q.2 r) q := by
  refine ⟨rfl, rfl, fun a' b' n' h => ⟨?_, rfl, rfl⟩⟩
  rw [gI_rI, if_neg]
  intro e
  apply h
  unfold z_own
  rw [if_neg (by omega), e.1, e.2]
theorem only_aJ {σ : z_St} {q : z_Ad} {r : Nat → Int64} (ha : 16 ≤ q.1) : z_only σ (rJ σ q.1 q.2 r) q := by
  refine ⟨rfl, rfl, fun a' b' n' h => ⟨rfl, ?_, rfl⟩⟩
  rw [gJ_rJ, if_neg]
  intro e
  apply h
  unfold z_own
  rw [if_neg (by omega), e.1, e.2]
theorem only_aR {σ : z_St} {q : z_Ad} {r : Nat → Option z_Ad} (ha : 16 ≤ q.1) : z_only σ (rR σ q.1 q.2 r) q := by
  refine ⟨rfl, rfl, fun a' b' n' h => ⟨rfl, rfl, ?_⟩⟩
  rw [gR_rR, if_neg]
  intro e
  apply h
  unfold z_own
  rw [if_neg (by omega), e.1, e.2]
theorem ok_rI {σ : z_St} (h : z_ok σ) {a b : Nat} {r : Nat → Int32} (hb : aTy a = 17 → ∀ n, fits .byte (.int (r n)) = true) : z_ok (rI σ a b r) := by
  refine ⟨h.1, h.2.1, h.2.2.1, fun a' b' n' ht => ?_⟩
  rw [gI_rI]
  split
  · rename_i e
    exact hb (by rw [← e.1]; exact ht) n'
  · exact h.2.2.2 a' b' n' ht
theorem ok_rJ {σ : z_St} (h : z_ok σ) {a b : Nat} {r : Nat → Int64} : z_ok (rJ σ a b r) := h
theorem ok_rR {σ : z_St} (h : z_ok σ) {a b : Nat} {r : Nat → Option z_Ad} (hv : ∀ n q, z_own a b n ∈ al σ → r n = some q → z_val σ q) : z_ok (rR σ a b r) := by
  refine ⟨h.1, h.2.1, fun a' b' n' q ho hq => ?_, h.2.2.2⟩
  rw [gR_rR] at hq
  split at hq
  · rename_i ee
    exact hv n' q (by rw [← ee.1, ← ee.2]; exact ho) hq
  · exact h.2.2.1 a' b' n' q ho hq
section SND
variable {own : String} {cc : ByteArray} {nL d pc : Nat} {ini : Bool} {G : z_G} {l : Launch} {C : z_O}
/-! loads, stores, constants -/
theorem so_iload_n (k : Fin 4) (hd : decode cc pc = .ok (.iload_n k, 1)) : z_SO own cc nL ini d G l C pc 1 (zo_ldI k) := by
  intro p e R s m args below meth c Q A φ0 σ0 σf r hx hi φ σ H locs ls lsA st hr hl hv k hk ho kk
  obtain ⟨y, hg, ho⟩ := v_lI ho
  exact lv_iload_n hx.1.1 hx.1.2.1 hd rfl (hl.2 _ _ hg) (kk φ σ H locs ls lsA _ hr hl (vs_psh hv (vv_I _ _)) ho)
theorem so_iload (i : Nat) (hd : decode cc pc = .ok (.iload i, 2)) : z_SO own cc nL ini d G l C pc 2 (zo_ldI i) := by
  intro p e R s m args below meth c Q A φ0 σ0 σf r hx hi φ σ H locs ls lsA st hr hl hv k hk ho kk
  obtain ⟨y, hg, ho⟩ := v_lI ho
  exact lv_iload hx.1.1 hx.1.2.1 hd (hl.2 _ _ hg) (kk φ σ H locs ls lsA _ hr hl (vs_psh hv (vv_I _ _)) ho)
theorem so_lload_n (k : Fin 4) (hd : decode cc pc = .ok (.lload_n k, 1)) : z_SO own cc nL ini d G l C pc 1 (zo_ldJ k) := by
  intro p e R s m args below meth c Q A φ0 σ0 σf r hx hi φ σ H locs ls lsA st hr hl hv k hk ho kk
  obtain ⟨y, hg, ho⟩ := v_lJ ho
  exact lv_lload_n hx.1.1 hx.1.2.1 hd rfl (hl.2 _ _ hg) (kk φ σ H locs ls lsA _ hr hl (vs_psh hv (vv_J _ _)) ho)
theorem so_lload (i : Nat) (hd : decode cc pc = .ok (.lload i, 2)) : z_SO own cc nL ini d G l C pc 2 (zo_ldJ i) := by
  intro p e R s m args below meth c Q A φ0 σ0 σf r hx hi φ σ H locs ls lsA st hr hl hv k hk ho kk
  obtain ⟨y, hg, ho⟩ := v_lJ ho
  exact lv_lload hx.1.1 hx.1.2.1 hd (hl.2 _ _ hg) (kk φ σ H locs ls lsA _ hr hl (vs_psh hv (vv_J _ _)) ho)
theorem so_aload_n (k : Fin 4) (hd : decode cc pc = .ok (.aload_n k, 1)) : z_SO own cc nL ini d G l C pc 1 (zo_ldA k) := by
  intro p e R s m args below meth c Q A φ0 σ0 σf r hx hi φ σ H locs ls lsA st hr hl hv k hk ho kk
  obtain ⟨y, hg, ho⟩ := v_lR ho
  have kk := kk φ σ H locs ls lsA _ hr hl (vs_psh hv (hv.1 _ _ hg)) ho
  have hg := hl.2 _ _ hg
  cases y with
  | some q => exact lv_aload_n hx.1.1 hx.1.2.1 hd rfl hg kk
  | none => exact lv_aload_nN hx.1.1 hx.1.2.1 hd rfl hg kk
theorem so_aload (i : Nat) (hd : decode cc pc = .ok (.aload i, 2)) : z_SO own cc nL ini d G l C pc 2 (zo_ldA i) := by
  intro p e R s m args below meth c Q A φ0 σ0 σf r hx hi φ σ H locs ls lsA st hr hl hv k hk ho kk
  obtain ⟨y, hg, ho⟩ := v_lR ho
  have kk := kk φ σ H locs ls lsA _ hr hl (vs_psh hv (hv.1 _ _ hg)) ho
  have hg := hl.2 _ _ hg
  cases y with
  | some q => exact lv_aload hx.1.1 hx.1.2.1 hd hg kk
  | none => exact lv_aloadN hx.1.1 hx.1.2.1 hd hg kk
theorem so_istore_n (k : Fin 4) (hk : (k : Nat) < nL) (hd : decode cc pc = .ok (.istore_n k, 1)) : z_SO own cc nL ini d G l C pc 1 (zo_stI k) := by
  intro p e R s m args below meth c Q A φ0 σ0 σf r hx hi φ σ H locs ls lsA st hr hl hv k hk ho kk
  obtain ⟨y, st, rfl, ho⟩ := v_pI ho
  exact lv_istore_n hx.1.1 hx.1.2.1 hd rfl (lr_prs hl) (by assumption) rfl fun ls' h' => kk φ σ H locs ls' _ _ hr (lr_st1 (v := .inl y) rfl h') (vs_st1 (vs_pop hv) (vv_I _ _)) ho
theorem so_istore (i : Nat) (hk : i < nL) (hd : decode cc pc = .ok (.istore i, 2)) : z_SO own cc nL ini d G l C pc 2 (zo_stI i) := by
  intro p e R s m args below meth c Q A φ0 σ0 σf r hx hi φ σ H locs ls lsA st hr hl hv k hk ho kk
  obtain ⟨y, st, rfl, ho⟩ := v_pI ho
  exact lv_istore hx.1.1 hx.1.2.1 hd (lr_prs hl) (by assumption) rfl fun ls' h' => kk φ σ H locs ls' _ _ hr (lr_st1 (v := .inl y) rfl h') (vs_st1 (vs_pop hv) (vv_I _ _)) ho
theorem so_lstore_n (k : Fin 4) (hk : (k : Nat) + 1 < nL) (hd : decode cc pc = .ok (.lstore_n k, 1)) : z_SO own cc nL ini d G l C pc 1 (zo_stJ k) := by
  intro p e R s m args below meth c Q A φ0 σ0 σf r hx hi φ σ H locs ls lsA st hr hl hv k hk ho kk
  obtain ⟨y, st, rfl, ho⟩ := v_pJ ho
  exact lv_lstore_n hx.1.1 hx.1.2.1 hd rfl (lr_prs hl) (by assumption) rfl fun ls' h' => kk φ σ H locs ls' _ _ hr (lr_st2 (v := .inr (.inl y)) rfl h') (vs_st2 (vs_pop hv) (vv_J _ _)) ho
theorem so_lstore (i : Nat) (hk : i + 1 < nL) (hd : decode cc pc = .ok (.lstore i, 2)) : z_SO own cc nL ini d G l C pc 2 (zo_stJ i) := by
  intro p e R s m args below meth c Q A φ0 σ0 σf r hx hi φ σ H locs ls lsA st hr hl hv k hk ho kk
  obtain ⟨y, st, rfl, ho⟩ := v_pJ ho
  exact lv_lstore hx.1.1 hx.1.2.1 hd (lr_prs hl) (by assumption) rfl fun ls' h' => kk φ σ H locs ls' _ _ hr (lr_st2 (v := .inr (.inl y)) rfl h') (vs_st2 (vs_pop hv) (vv_J _ _)) ho
theorem so_astore_n (k : Fin 4) (hk : (k : Nat) < nL) (hd : decode cc pc = .ok (.astore_n k, 1)) : z_SO own cc nL ini d G l C pc 1 (zo_stA k) := by
  intro p e R s m args below meth c Q A φ0 σ0 σf r hx hi φ σ H locs ls lsA st hr hl hv k hk ho kk
  obtain ⟨y, st, rfl, ho⟩ := v_pR ho
  have hy := vs_top hv
  cases y with
  | some q => exact lv_astore_n hx.1.1 hx.1.2.1 hd rfl (lr_prs hl) (by assumption) rfl fun ls' h' => kk φ σ H locs ls' _ _ hr (lr_st1 (v := .inr (.inr (some q))) rfl h') (vs_st1 (vs_pop hv) hy) ho
  | none => exact lv_astore_nN hx.1.1 hx.1.2.1 hd rfl (lr_prs hl) (by assumption) rfl fun ls' h' => kk φ σ H locs ls' _ _ hr (lr_st1 (v := .inr (.inr none)) rfl h') (vs_st1 (vs_pop hv) hy) ho
theorem so_astore (i : Nat) (hk : i < nL) (hd : decode cc pc = .ok (.astore i, 2)) : z_SO own cc nL ini d G l C pc 2 (zo_stA i) := by
  intro p e R s m args below meth c Q A φ0 σ0 σf r hx hi φ σ H locs ls lsA st hr hl hv k hk ho kk
  obtain ⟨y, st, rfl, ho⟩ := v_pR ho
  have hy := vs_top hv
  cases y with
  | some q => exact lv_astore hx.1.1 hx.1.2.1 hd (lr_prs hl) (by assumption) rfl fun ls' h' => kk φ σ H locs ls' _ _ hr (lr_st1 (v := .inr (.inr (some q))) rfl h') (vs_st1 (vs_pop hv) hy) ho
  | none => exact lv_astoreN hx.1.1 hx.1.2.1 hd (lr_prs hl) (by assumption) rfl fun ls' h' => kk φ σ H locs ls' _ _ hr (lr_st1 (v := .inr (.inr none)) rfl h') (vs_st1 (vs_pop hv) hy) ho
theorem so_iinc (i : Nat) (n : Int) (v : Int32) (hv : Int32.ofInt n = v) (hk : i < nL) (hd : decode cc pc = .ok (.iinc i n, 3)) : z_SO own cc nL ini d G l C pc 3 (zo_inc i v) := by
  intro p e R s m args below meth c Q A φ0 σ0 σf r hx hi φ σ H locs ls lsA st hr hl hv k hk ho kk
  obtain ⟨y, hg, ho⟩ := v_lI ho
  subst v
  obtain ⟨j, hj⟩ := List.getElem?_of_mem (mem_prs (φ := φ).mpr ⟨_, hg, rfl⟩ : (i, Value.int y) ∈ z_prs φ lsA)
  exact lv_iinc hx.1.1 hx.1.2.1 hd (lr_prs hl) hj rfl (by assumption) rfl fun ls' h' => kk φ σ H locs ls' _ _ hr (lr_st1 (v := .inl (y + Int32.ofInt n)) rfl h') (vs_st1 hv (vv_I _ _)) ho
theorem so_iconst (n : Int) (v : Int32) (he : Int32.ofInt n = v) (hd : decode cc pc = .ok (.iconst n, 1)) : z_SO own cc nL ini d G l C pc 1 (zo_cI v) := by
  intro p e R s m args below meth c Q A φ0 σ0 σf r hx hi φ σ H locs ls lsA st hr hl hv k hk ho kk
  exact lv_iconst hx.1.1 hx.1.2.1 hd he (kk φ σ H locs ls lsA _ hr hl (vs_psh hv (vv_I _ _)) ho)
theorem so_bipush (n : Int) (v : Int32) (he : (Int8.ofInt n).toInt32 = v) (hd : decode cc pc = .ok (.bipush n, 2)) : z_SO own cc nL ini d G l C pc 2 (zo_cI v) := by
  intro p e R s m args below meth c Q A φ0 σ0 σf r hx hi φ σ H locs ls lsA st hr hl hv k hk ho kk
  exact lv_bipush hx.1.1 hx.1.2.1 hd he (kk φ σ H locs ls lsA _ hr hl (vs_psh hv (vv_I _ _)) ho)
theorem so_sipush (n : Int) (v : Int32) (he : (Int16.ofInt n).toInt32 = v) (hd : decode cc pc = .ok (.sipush n, 3)) : z_SO own cc nL ini d G l C pc 3 (zo_cI v) := by
  intro p e R s m args below meth c Q A φ0 σ0 σf r hx hi φ σ H locs ls lsA st hr hl hv k hk ho kk
  exact lv_sipush hx.1.1 hx.1.2.1 hd he (kk φ σ H locs ls lsA _ hr hl (vs_psh hv (vv_I _ _)) ho)
theorem so_lconst (n : Fin 2) (v : Int64) (he : Int64.ofNat (n : Nat) = v) (hd : decode cc pc = .ok (.lconst n, 1)) : z_SO own cc nL ini d G l C pc 1 (zo_cJ v) := by
  intro p e R s m args below meth c Q A φ0 σ0 σf r hx hi φ σ H locs ls lsA st hr hl hv k hk ho kk
  exact lv_lconst hx.1.1 hx.1.2.1 hd he (kk φ σ H locs ls lsA _ hr hl (vs_psh hv (vv_J _ _)) ho)
theorem so_ldc (i : Nat) (v : Int32) (hc : Cond.constant own i v ∈ lw_all) (hd : decode cc pc = .ok (.ldc i, 2)) : z_SO own cc nL ini d G l C pc 2 (zo_cI v) := by
  intro p e R s m args below meth c Q A φ0 σ0 σf r hx hi φ σ H locs ls lsA st hr hl hv k hk ho kk
  exact lv_ldc hx.1.1 hx.1.2.1 hx.1.2.2.2 (hx.2.1 _ hc) hd (kk φ σ H locs ls lsA _ hr hl (vs_psh hv (vv_I _ _)) ho)
theorem so_ldc2 (i : Nat) (v : Int64) (hc : Cond.constantLong own i v ∈ lw_all) (hd : decode cc pc = .ok (.ldc2_w i, 3)) : z_SO own cc nL ini d G l C pc 3 (zo_cJ v) := by
  intro p e R s m args below meth c Q A φ0 σ0 σf r hx hi φ σ H locs ls lsA st hr hl hv k hk ho kk
  exact lv_ldc2 hx.1.1 hx.1.2.1 hx.1.2.2.2 (hx.2.1 _ hc) hd (kk φ σ H locs ls lsA _ hr hl (vs_psh hv (vv_J _ _)) ho)
theorem so_null (hd : decode cc pc = .ok (.aconst_null, 1)) : z_SO own cc nL ini d G l C pc 1 zo_null := by
  intro p e R s m args below meth c Q A φ0 σ0 σf r hx hi φ σ H locs ls lsA st hr hl hv k hk ho kk
  exact lv_null hx.1.1 hx.1.2.1 hd (kk φ σ H locs ls lsA _ hr hl (vs_psh hv (vv_0 _)) ho)
/-! stack -/
theorem so_dupI (hd : decode cc pc = .ok (.dup, 1)) : z_SO own cc nL ini d G l C pc 1 zo_dupI := by
  intro p e R s m args below meth c Q A φ0 σ0 σf r hx hi φ σ H locs ls lsA st hr hl hv k hk ho kk
  obtain ⟨y, st, rfl, ho⟩ := v_pI ho
  exact lv_dup hx.1.1 hx.1.2.1 hd rfl (kk φ σ H locs ls lsA _ hr hl (vs_psh hv (vv_I _ _)) ho)
theorem so_dupR (hd : decode cc pc = .ok (.dup, 1)) : z_SO own cc nL ini d G l C pc 1 zo_dupR := by
  intro p e R s m args below meth c Q A φ0 σ0 σf r hx hi φ σ H locs ls lsA st hr hl hv k hk ho kk
  obtain ⟨y, st, rfl, ho⟩ := v_pR ho
  exact lv_dup hx.1.1 hx.1.2.1 hd (rv_cat φ (.inr (.inr y))) (kk φ σ H locs ls lsA _ hr hl (vs_psh hv (vs_top hv)) ho)
theorem so_dupx1 (hd : decode cc pc = .ok (.dup_x1, 1)) : z_SO own cc nL ini d G l C pc 1 zo_dupx1 := by
  intro p e R s m args below meth c Q A φ0 σ0 σf r hx hi φ σ H locs ls lsA st hr hl hv k hk ho kk
  obtain ⟨x, st, rfl, ho⟩ := v_pI ho
  obtain ⟨y, st, rfl, ho⟩ := v_pR ho
  exact lv_dup_x1 hx.1.1 hx.1.2.1 hd rfl (rv_cat φ (.inr (.inr y))) (kk φ σ H locs ls lsA _ hr hl (vs_psh (vs_psh (vs_psh (vs_pop (vs_pop hv)) (vv_I _ _)) (vs_top (vs_pop hv))) (vv_I _ _)) ho)
theorem so_dup2 (hd : decode cc pc = .ok (.dup2, 1)) : z_SO own cc nL ini d G l C pc 1 zo_dup2 := by
  intro p e R s m args below meth c Q A φ0 σ0 σf r hx hi φ σ H locs ls lsA st hr hl hv k hk ho kk
  obtain ⟨x, st, rfl, ho⟩ := v_pI ho
  obtain ⟨y, st, rfl, ho⟩ := v_pR ho
  exact lv_dup2_11 hx.1.1 hx.1.2.1 hd rfl (rv_cat φ (.inr (.inr y))) (kk φ σ H locs ls lsA _ hr hl (vs_psh (vs_psh hv (vs_top (vs_pop hv))) (vv_I _ _)) ho)
/-! arithmetic -/
theorem so_iadd (hd : decode cc pc = .ok (.iadd, 1)) : z_SO own cc nL ini d G l C pc 1 (zo_ii (· + ·)) := by
  intro p e R s m args below meth c Q A φ0 σ0 σf r hx hi φ σ H locs ls lsA st hr hl hv k hk ho kk
  obtain ⟨x0, st, rfl, h0⟩ := v_pI ho
  obtain ⟨x1, st, rfl, h1⟩ := v_pI h0
  exact lv_iadd hx.1.1 hx.1.2.1 hd (kk φ σ H locs ls lsA _ hr hl (vs_psh (vs_pop (vs_pop hv)) (vv_I _ _)) h1)
theorem so_isub (hd : decode cc pc = .ok (.isub, 1)) : z_SO own cc nL ini d G l C pc 1 (zo_ii (· - ·)) := by
  intro p e R s m args below meth c Q A φ0 σ0 σf r hx hi φ σ H locs ls lsA st hr hl hv k hk ho kk
  obtain ⟨x0, st, rfl, h0⟩ := v_pI ho
  obtain ⟨x1, st, rfl, h1⟩ := v_pI h0
  exact lv_isub hx.1.1 hx.1.2.1 hd (kk φ σ H locs ls lsA _ hr hl (vs_psh (vs_pop (vs_pop hv)) (vv_I _ _)) h1)
theorem so_imul (hd : decode cc pc = .ok (.imul, 1)) : z_SO own cc nL ini d G l C pc 1 (zo_ii (· * ·)) := by
  intro p e R s m args below meth c Q A φ0 σ0 σf r hx hi φ σ H locs ls lsA st hr hl hv k hk ho kk
  obtain ⟨x0, st, rfl, h0⟩ := v_pI ho
  obtain ⟨x1, st, rfl, h1⟩ := v_pI h0
  exact lv_imul hx.1.1 hx.1.2.1 hd (kk φ σ H locs ls lsA _ hr hl (vs_psh (vs_pop (vs_pop hv)) (vv_I _ _)) h1)
theorem so_iand (hd : decode cc pc = .ok (.iand, 1)) : z_SO own cc nL ini d G l C pc 1 (zo_ii (· &&& ·)) := by
  intro p e R s m args below meth c Q A φ0 σ0 σf r hx hi φ σ H locs ls lsA st hr hl hv k hk ho kk
  obtain ⟨x0, st, rfl, h0⟩ := v_pI ho
  obtain ⟨x1, st, rfl, h1⟩ := v_pI h0
  exact lv_iand hx.1.1 hx.1.2.1 hd (kk φ σ H locs ls lsA _ hr hl (vs_psh (vs_pop (vs_pop hv)) (vv_I _ _)) h1)
theorem so_ior (hd : decode cc pc = .ok (.ior, 1)) : z_SO own cc nL ini d G l C pc 1 (zo_ii (· ||| ·)) := by
  intro p e R s m args below meth c Q A φ0 σ0 σf r hx hi φ σ H locs ls lsA st hr hl hv k hk ho kk
  obtain ⟨x0, st, rfl, h0⟩ := v_pI ho
  obtain ⟨x1, st, rfl, h1⟩ := v_pI h0
  exact lv_ior hx.1.1 hx.1.2.1 hd (kk φ σ H locs ls lsA _ hr hl (vs_psh (vs_pop (vs_pop hv)) (vv_I _ _)) h1)
theorem so_ishl (hd : decode cc pc = .ok (.ishl, 1)) : z_SO own cc nL ini d G l C pc 1 (zo_ii fun x y => x <<< (y &&& 31)) := by
  intro p e R s m args below meth c Q A φ0 σ0 σf r hx hi φ σ H locs ls lsA st hr hl hv k hk ho kk
  obtain ⟨x0, st, rfl, h0⟩ := v_pI ho
  obtain ⟨x1, st, rfl, h1⟩ := v_pI h0
  exact lv_ishl hx.1.1 hx.1.2.1 hd (kk φ σ H locs ls lsA _ hr hl (vs_psh (vs_pop (vs_pop hv)) (vv_I _ _)) h1)
theorem so_ishr (hd : decode cc pc = .ok (.ishr, 1)) : z_SO own cc nL ini d G l C pc 1 (zo_ii fun x y => x >>> (y &&& 31)) := by
  intro p e R s m args below meth c Q A φ0 σ0 σf r hx hi φ σ H locs ls lsA st hr hl hv k hk ho kk
  obtain ⟨x0, st, rfl, h0⟩ := v_pI ho
  obtain ⟨x1, st, rfl, h1⟩ := v_pI h0
  exact lv_ishr hx.1.1 hx.1.2.1 hd (kk φ σ H locs ls lsA _ hr hl (vs_psh (vs_pop (vs_pop hv)) (vv_I _ _)) h1)
theorem so_idiv (hd : decode cc pc = .ok (.idiv, 1)) : z_SO own cc nL ini d G l C pc 1 zo_div := by
  intro p e R s m args below meth c Q A φ0 σ0 σf r hx hi φ σ H locs ls lsA st hr hl hv k hk ho kk
  obtain ⟨x0, st, rfl, h0⟩ := v_pI ho
  obtain ⟨x1, st, rfl, h1⟩ := v_pI h0
  obtain ⟨hy, hz⟩ := v_ck h1
  exact lv_idiv hx.1.1 hx.1.2.1 hd hy (kk φ σ H locs ls lsA _ hr hl (vs_psh (vs_pop (vs_pop hv)) (vv_I _ _)) hz)
theorem so_irem (hd : decode cc pc = .ok (.irem, 1)) : z_SO own cc nL ini d G l C pc 1 zo_rem := by
  intro p e R s m args below meth c Q A φ0 σ0 σf r hx hi φ σ H locs ls lsA st hr hl hv k hk ho kk
  obtain ⟨x0, st, rfl, h0⟩ := v_pI ho
  obtain ⟨x1, st, rfl, h1⟩ := v_pI h0
  obtain ⟨hy, hz⟩ := v_ck h1
  exact lv_irem hx.1.1 hx.1.2.1 hd hy (kk φ σ H locs ls lsA _ hr hl (vs_psh (vs_pop (vs_pop hv)) (vv_I _ _)) hz)
theorem so_ladd (hd : decode cc pc = .ok (.ladd, 1)) : z_SO own cc nL ini d G l C pc 1 (zo_jj (· + ·)) := by
  intro p e R s m args below meth c Q A φ0 σ0 σf r hx hi φ σ H locs ls lsA st hr hl hv k hk ho kk
  obtain ⟨x0, st, rfl, h0⟩ := v_pJ ho
  obtain ⟨x1, st, rfl, h1⟩ := v_pJ h0
  exact lv_ladd hx.1.1 hx.1.2.1 hd (kk φ σ H locs ls lsA _ hr hl (vs_psh (vs_pop (vs_pop hv)) (vv_J _ _)) h1)
theorem so_lsub (hd : decode cc pc = .ok (.lsub, 1)) : z_SO own cc nL ini d G l C pc 1 (zo_jj (· - ·)) := by
  intro p e R s m args below meth c Q A φ0 σ0 σf r hx hi φ σ H locs ls lsA st hr hl hv k hk ho kk
  obtain ⟨x0, st, rfl, h0⟩ := v_pJ ho
  obtain ⟨x1, st, rfl, h1⟩ := v_pJ h0
  exact lv_lsub hx.1.1 hx.1.2.1 hd (kk φ σ H locs ls lsA _ hr hl (vs_psh (vs_pop (vs_pop hv)) (vv_J _ _)) h1)
theorem so_lmul (hd : decode cc pc = .ok (.lmul, 1)) : z_SO own cc nL ini d G l C pc 1 (zo_jj (· * ·)) := by
  intro p e R s m args below meth c Q A φ0 σ0 σf r hx hi φ σ H locs ls lsA st hr hl hv k hk ho kk
  obtain ⟨x0, st, rfl, h0⟩ := v_pJ ho
  obtain ⟨x1, st, rfl, h1⟩ := v_pJ h0
  exact lv_lmul hx.1.1 hx.1.2.1 hd (kk φ σ H locs ls lsA _ hr hl (vs_psh (vs_pop (vs_pop hv)) (vv_J _ _)) h1)
theorem so_land (hd : decode cc pc = .ok (.land, 1)) : z_SO own cc nL ini d G l C pc 1 (zo_jj (· &&& ·)) := by
  intro p e R s m args below meth c Q A φ0 σ0 σf r hx hi φ σ H locs ls lsA st hr hl hv k hk ho kk
  obtain ⟨x0, st, rfl, h0⟩ := v_pJ ho
  obtain ⟨x1, st, rfl, h1⟩ := v_pJ h0
  exact lv_land hx.1.1 hx.1.2.1 hd (kk φ σ H locs ls lsA _ hr hl (vs_psh (vs_pop (vs_pop hv)) (vv_J _ _)) h1)
theorem so_lor (hd : decode cc pc = .ok (.lor, 1)) : z_SO own cc nL ini d G l C pc 1 (zo_jj (· ||| ·)) := by
  intro p e R s m args below meth c Q A φ0 σ0 σf r hx hi φ σ H locs ls lsA st hr hl hv k hk ho kk
  obtain ⟨x0, st, rfl, h0⟩ := v_pJ ho
  obtain ⟨x1, st, rfl, h1⟩ := v_pJ h0
  exact lv_lor hx.1.1 hx.1.2.1 hd (kk φ σ H locs ls lsA _ hr hl (vs_psh (vs_pop (vs_pop hv)) (vv_J _ _)) h1)
theorem so_lneg (hd : decode cc pc = .ok (.lneg, 1)) : z_SO own cc nL ini d G l C pc 1 zo_lneg := by
  intro p e R s m args below meth c Q A φ0 σ0 σf r hx hi φ σ H locs ls lsA st hr hl hv k hk ho kk
  obtain ⟨x0, st, rfl, h0⟩ := v_pJ ho
  exact lv_lneg hx.1.1 hx.1.2.1 hd (kk φ σ H locs ls lsA _ hr hl (vs_psh (vs_pop hv) (vv_J _ _)) h0)
theorem so_lshl (hd : decode cc pc = .ok (.lshl, 1)) : z_SO own cc nL ini d G l C pc 1 zo_lshl := by
  intro p e R s m args below meth c Q A φ0 σ0 σf r hx hi φ σ H locs ls lsA st hr hl hv k hk ho kk
  obtain ⟨x0, st, rfl, h0⟩ := v_pI ho
  obtain ⟨x1, st, rfl, h1⟩ := v_pJ h0
  exact lv_lshl hx.1.1 hx.1.2.1 hd rfl (kk φ σ H locs ls lsA _ hr hl (vs_psh (vs_pop (vs_pop hv)) (vv_J _ _)) h1)
theorem so_lshr (hd : decode cc pc = .ok (.lshr, 1)) : z_SO own cc nL ini d G l C pc 1 zo_lshr := by
  intro p e R s m args below meth c Q A φ0 σ0 σf r hx hi φ σ H locs ls lsA st hr hl hv k hk ho kk
  obtain ⟨x0, st, rfl, h0⟩ := v_pI ho
  obtain ⟨x1, st, rfl, h1⟩ := v_pJ h0
  exact lv_lshr hx.1.1 hx.1.2.1 hd rfl (kk φ σ H locs ls lsA _ hr hl (vs_psh (vs_pop (vs_pop hv)) (vv_J _ _)) h1)
theorem so_i2l (hd : decode cc pc = .ok (.i2l, 1)) : z_SO own cc nL ini d G l C pc 1 zo_i2l := by
  intro p e R s m args below meth c Q A φ0 σ0 σf r hx hi φ σ H locs ls lsA st hr hl hv k hk ho kk
  obtain ⟨x0, st, rfl, h0⟩ := v_pI ho
  exact lv_i2l hx.1.1 hx.1.2.1 hd rfl (kk φ σ H locs ls lsA _ hr hl (vs_psh (vs_pop hv) (vv_J _ _)) h0)
theorem so_l2i (hd : decode cc pc = .ok (.l2i, 1)) : z_SO own cc nL ini d G l C pc 1 zo_l2i := by
  intro p e R s m args below meth c Q A φ0 σ0 σf r hx hi φ σ H locs ls lsA st hr hl hv k hk ho kk
  obtain ⟨x0, st, rfl, h0⟩ := v_pJ ho
  exact lv_l2i hx.1.1 hx.1.2.1 hd rfl (kk φ σ H locs ls lsA _ hr hl (vs_psh (vs_pop hv) (vv_I _ _)) h0)
theorem so_i2b (hd : decode cc pc = .ok (.i2b, 1)) : z_SO own cc nL ini d G l C pc 1 zo_i2b := by
  intro p e R s m args below meth c Q A φ0 σ0 σf r hx hi φ σ H locs ls lsA st hr hl hv k hk ho kk
  obtain ⟨x0, st, rfl, h0⟩ := v_pI ho
  exact lv_i2b hx.1.1 hx.1.2.1 hd rfl (kk φ σ H locs ls lsA _ hr hl (vs_psh (vs_pop hv) (vv_I _ _)) h0)
theorem so_lcmp (hd : decode cc pc = .ok (.lcmp, 1)) : z_SO own cc nL ini d G l C pc 1 zo_lcmp := by
  intro p e R s m args below meth c Q A φ0 σ0 σf r hx hi φ σ H locs ls lsA st hr hl hv k hk ho kk
  obtain ⟨x0, st, rfl, h0⟩ := v_pJ ho
  obtain ⟨x1, st, rfl, h1⟩ := v_pJ h0
  exact W.lcmp hx.1.1 hx.1.2.1 hd (kk φ σ H locs ls lsA _ hr hl (vs_psh (vs_pop (vs_pop hv)) (vv_I _ _)) h1)
end SND
