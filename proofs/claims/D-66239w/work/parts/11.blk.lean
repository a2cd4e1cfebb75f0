/-! PART 11: ends of blocks, blocks, methods are sound -/
def z_rtok (rt : Option FieldType) (r : Option z_V) : Prop := match rt with
  | none => r = none
  | some .int => ∃ x : Int32, r = some (.inl x)
  | some .boolean => ∃ x : Int32, r = some (.inl x) ∧ (x = 0 ∨ x = 1)
  | some .long => ∃ x : Int64, r = some (.inr (.inl x))
  | some (.object _) => ∃ q, r = some (.inr (.inr q))
  | some (.array _) => ∃ q, r = some (.inr (.inr q))
  | _ => False
def z_ri (rt : Option FieldType) : Instr := match rt with
  | none => .return_
  | some .int => .ireturn
  | some .boolean => .ireturn
  | some .long => .lreturn
  | _ => .areturn
/-- the return is sound -/
def z_RH (rt : Option FieldType) (cc : ByteArray) (G : z_G) (p : Program) (l : Launch) (e : Env) (R : Room) (s : State) (m : MethodId) (args : Array Value) (below : List Frame) (meth : Method) (c : Code) (Q : State → Prop) (A : Nat → Prop) (φ0 : z_Ad → Nat) (σ0 σf : z_St) (r : Option z_V) : Prop :=
  ∀ (φ : z_Ad → Nat) (H : Heap) (locs : List Loc) (ls : Array Slot) (pc : Nat), decode cc pc = .ok (z_ri rt, 1) → z_rtok rt r → z_rel G s A φ0 σ0 φ σf H locs → (∀ v, r = some v → z_vv σf v) → z_WW p l e R s m args below meth c Q σ0 σf H locs (F0 m pc ls ((r.map (rv φ)).toList))
def z_ST (own : String) (cc : ByteArray) (nL d : Nat) (G : z_G) (l : Launch) (rt : Option FieldType) (bp : Nat → Nat) (pc : Nat) (t : z_Tm) : Prop :=
  ∀ (p : Program) (e : Env) (R : Room) (s : State) (m : MethodId) (args : Array Value) (below : List Frame) (meth : Method) (c : Code) (Q : State → Prop) (A : Nat → Prop) (φ0 : z_Ad → Nat) (σ0 σf : z_St) (r : Option z_V),
    z_cx own cc nL d G p R s m args meth c A σ0 σf → z_RH rt cc G p l e R s m args below meth c Q A φ0 σ0 σf r →
    ∀ (φ : z_Ad → Nat) (σ : z_St) (H : Heap) (locs : List Loc) (ls : Array Slot) (lsA : z_L) (st : List z_V), z_rel G s A φ0 σ0 φ σ H locs → z_lr φ lsA ls nL → z_vs σ lsA st →
    ∀ j : z_J, t lsA st σ j = some (σf, r) →
    (∀ (b : Nat) (lsA' : z_L) (st' : List z_V), j b lsA' st' σ = some (σf, r) → z_lr φ lsA' ls nL → z_vs σ lsA' st' → z_WW p l e R s m args below meth c Q σ0 σ H locs (F0 m (bp b) ls (st'.map (rv φ)))) →
    z_WW p l e R s m args below meth c Q σ0 σ H locs (F0 m pc ls (st.map (rv φ)))
section SNT
variable {own : String} {cc : ByteArray} {nL d pc : Nat} {G : z_G} {l : Launch} {rt : Option FieldType} {bp : Nat → Nat}
theorem st_goto {b : Nat} {m : List Bool} {off : Int} (ht : (pc : Int) + off = (bp b : Int)) (hd : decode cc pc = .ok (.goto off, 3)) : z_ST own cc nL d G l rt bp pc (zt_goto b m) := by
  intro p e R s m' args below meth c Q A φ0 σ0 σf r hx hR φ σ H locs ls lsA st hr hl hv j ho kk
  exact lv_goto hx.1.1 hx.1.2.1 hd ht (kk b _ st ho (lr_mask m hl) (vs_mask m hv))
theorem st_fall {b : Nat} {m : List Bool} (ht : bp b = pc) : z_ST own cc nL d G l rt bp pc (zt_goto b m) := by
  intro p e R s m' args below meth c Q A φ0 σ0 σf r hx hR φ σ H locs ls lsA st hr hl hv j ho kk
  rw [← ht]
  exact kk b _ st ho (lr_mask m hl) (vs_mask m hv)
theorem v_if {q : Int32 → Prop} [DecidablePred q] {b1 b2 : Nat} {m1 m2 : List Bool} {ls : z_L} {st : List z_V} {σ : z_St} {j : z_J} {x : z_R} (h : zt_if q b1 m1 b2 m2 ls st σ j = some x) : ∃ y st', st = .inl y :: st' ∧ (q y → j b1 (z_mask m1 ls) st' σ = some x) ∧ (¬ q y → j b2 (z_mask m2 ls) st' σ = some x) := by
  match st, h with
  | .inl y :: st', h => exact ⟨y, st', rfl, fun hq => (if_pos hq).symm.trans h, fun hq => (if_neg hq).symm.trans h⟩
  | [], h => cases h
  | .inr _ :: _, h => cases h
theorem v_icmp {q : Int32 → Int32 → Prop} [∀ x y, Decidable (q x y)] {b1 b2 : Nat} {m1 m2 : List Bool} {ls : z_L} {st : List z_V} {σ : z_St} {j : z_J} {x : z_R} (h : zt_icmp q b1 m1 b2 m2 ls st σ j = some x) : ∃ y z st', st = .inl y :: .inl z :: st' ∧ (q z y → j b1 (z_mask m1 ls) st' σ = some x) ∧ (¬ q z y → j b2 (z_mask m2 ls) st' σ = some x) := by
  match st, h with
  | .inl y :: .inl z :: st', h => exact ⟨y, z, st', rfl, fun hq => (if_pos hq).symm.trans h, fun hq => (if_neg hq).symm.trans h⟩
  | [], h => cases h
  | .inr _ :: _, h => cases h
  | [.inl _], h => cases h
  | .inl _ :: .inr _ :: _, h => cases h
theorem v_null {b1 b2 : Nat} {m1 m2 : List Bool} {ls : z_L} {st : List z_V} {σ : z_St} {j : z_J} {x : z_R} (h : zt_null b1 m1 b2 m2 ls st σ j = some x) : ∃ q st', st = .inr (.inr q) :: st' ∧ (q = none → j b1 (z_mask m1 ls) st' σ = some x) ∧ (¬ q = none → j b2 (z_mask m2 ls) st' σ = some x) := by
  match st, h with
  | .inr (.inr q) :: st', h => exact ⟨q, st', rfl, fun hq => (if_pos hq).symm.trans h, fun hq => (if_neg hq).symm.trans h⟩
  | [], h => cases h
  | .inl _ :: _, h => cases h
  | .inr (.inl _) :: _, h => cases h
theorem st_ifnull {b1 b2 : Nat} {m1 m2 : List Bool} {off : Int} (h1 : (pc : Int) + off = (bp b1 : Int)) (h2 : bp b2 = pc + 3) (hd : decode cc pc = .ok (.ifnull off, 3)) : z_ST own cc nL d G l rt bp pc (zt_null b1 m1 b2 m2) := by
  intro p e R s m' args below meth c Q A φ0 σ0 σf r hx hR φ σ H locs ls lsA st hr hl hv j ho kk
  obtain ⟨q, st, rfl, k1, k2⟩ := v_null ho
  cases q with
  | none => exact lv_ifnullN hx.1.1 hx.1.2.1 hd h1 (kk b1 _ st (k1 rfl) (lr_mask m1 hl) (vs_mask m1 (vs_pop hv)))
  | some q =>
    have kk := kk b2 _ st (k2 (fun e => by cases e)) (lr_mask m2 hl) (vs_mask m2 (vs_pop hv))
    rw [h2] at kk
    exact lv_ifnull hx.1.1 hx.1.2.1 hd kk
theorem st_ifnonnull {b1 b2 : Nat} {m1 m2 : List Bool} {off : Int} (h1 : (pc : Int) + off = (bp b2 : Int)) (h2 : bp b1 = pc + 3) (hd : decode cc pc = .ok (.ifnonnull off, 3)) : z_ST own cc nL d G l rt bp pc (zt_null b1 m1 b2 m2) := by
  intro p e R s m' args below meth c Q A φ0 σ0 σf r hx hR φ σ H locs ls lsA st hr hl hv j ho kk
  obtain ⟨q, st, rfl, k1, k2⟩ := v_null ho
  cases q with
  | none =>
    have kk := kk b1 _ st (k1 rfl) (lr_mask m1 hl) (vs_mask m1 (vs_pop hv))
    rw [h2] at kk
    exact lv_ifnonnullN hx.1.1 hx.1.2.1 hd kk
  | some q => exact lv_ifnonnull hx.1.1 hx.1.2.1 hd h1 (kk b2 _ st (k2 (fun e => by cases e)) (lr_mask m2 hl) (vs_mask m2 (vs_pop hv)))
theorem phi_inj {A : Nat → Prop} {φ : z_Ad → Nat} {σ : z_St} (hD : va_D A (z_ws G φ σ)) {x y : z_Ad} (hx : x ∈ al σ) (hy : y ∈ al σ) (h : φ x = φ y) : x = y := by
  obtain ⟨i, h1, h2⟩ := ws_at (G := G) (φ := φ) hx
  obtain ⟨j, h3, h4⟩ := ws_at (G := G) (φ := φ) hy
  have ee := hD.1 i j _ _ h2 h4 h
  subst ee
  exact Option.some.inj (h1.symm.trans h3)
theorem map_inj {A : Nat → Prop} {φ : z_Ad → Nat} {σ : z_St} (hD : va_D A (z_ws G φ σ)) {x y : Option z_Ad} (hx : z_vv σ (.inr (.inr x))) (hy : z_vv σ (.inr (.inr y))) (h1 : z_dyn x = true) (h2 : z_dyn y = true) : x.map φ = y.map φ ↔ x = y := by
  constructor
  · intro h
    cases x with
    | none => cases y with
      | none => rfl
      | some y => cases h
    | some x => cases y with
      | none => cases h
      | some y =>
        have e1 : φ x = φ y := Option.some.inj h
        rw [phi_inj hD (val_al (hx x rfl) (Or.inl (of_decide_eq_true h1))) (val_al (hy y rfl) (Or.inl (of_decide_eq_true h2))) e1]
  · intro h
    rw [h]
theorem v_acmp {b1 b2 : Nat} {m1 m2 : List Bool} {ls : z_L} {st : List z_V} {σ : z_St} {j : z_J} {x : z_R} (h : zt_acmp b1 m1 b2 m2 ls st σ j = some x) : ∃ y z st', st = .inr (.inr y) :: .inr (.inr z) :: st' ∧ z_dyn z = true ∧ z_dyn y = true ∧ (z = y → j b1 (z_mask m1 ls) st' σ = some x) ∧ (¬ z = y → j b2 (z_mask m2 ls) st' σ = some x) := by
  match st, h with
  | .inr (.inr y) :: .inr (.inr z) :: st', h =>
    obtain ⟨h1, h2⟩ := v_gd h
    exact ⟨y, z, st', rfl, h1.1, h1.2, fun hq => (if_pos hq).symm.trans h2, fun hq => (if_neg hq).symm.trans h2⟩
  | [], h => cases h
  | .inl _ :: _, h => cases h
  | .inr (.inl _) :: _, h => cases h
  | [.inr (.inr _)], h => cases h
  | .inr (.inr _) :: .inl _ :: _, h => cases h
  | .inr (.inr _) :: .inr (.inl _) :: _, h => cases h
theorem st_acmpeq {b1 b2 : Nat} {m1 m2 : List Bool} {off : Int} (h1 : (pc : Int) + off = (bp b1 : Int)) (h2 : bp b2 = pc + 3) (hd : decode cc pc = .ok (.if_acmp .eq off, 3)) : z_ST own cc nL d G l rt bp pc (zt_acmp b1 m1 b2 m2) := by
  intro p e R s m' args below meth c Q A φ0 σ0 σf r hx hR φ σ H locs ls lsA st hr hl hv j ho kk
  obtain ⟨y, z, st, rfl, d1, d2, k1, k2⟩ := v_acmp ho
  have hi := map_inj hr.2.1 (vs_top (vs_pop hv)) (vs_top hv) d1 d2
  exact lv_acmp_eq hx.1.1 hx.1.2.1 hd h1 (fun q => kk b1 _ st (k1 (hi.mp q)) (lr_mask m1 hl) (vs_mask m1 (vs_pop (vs_pop hv)))) (fun q => by
    have kk := kk b2 _ st (k2 (fun w => q (hi.mpr w))) (lr_mask m2 hl) (vs_mask m2 (vs_pop (vs_pop hv)))
    rw [h2] at kk
    exact kk)
theorem st_acmpne {b1 b2 : Nat} {m1 m2 : List Bool} {off : Int} (h1 : (pc : Int) + off = (bp b2 : Int)) (h2 : bp b1 = pc + 3) (hd : decode cc pc = .ok (.if_acmp .ne off, 3)) : z_ST own cc nL d G l rt bp pc (zt_acmp b1 m1 b2 m2) := by
  intro p e R s m' args below meth c Q A φ0 σ0 σf r hx hR φ σ H locs ls lsA st hr hl hv j ho kk
  obtain ⟨y, z, st, rfl, d1, d2, k1, k2⟩ := v_acmp ho
  have hi := map_inj hr.2.1 (vs_top (vs_pop hv)) (vs_top hv) d1 d2
  exact lv_acmp_ne hx.1.1 hx.1.2.1 hd h1 (fun q => kk b2 _ st (k2 (fun w => q (hi.mpr w))) (lr_mask m2 hl) (vs_mask m2 (vs_pop (vs_pop hv)))) (fun q => by
    have kk := kk b1 _ st (k1 (hi.mp q)) (lr_mask m1 hl) (vs_mask m1 (vs_pop (vs_pop hv)))
    rw [h2] at kk
    exact kk)
theorem v_pick {dd : Nat × List Bool} {x : Int32} {ls : z_L} {st : List z_V} {σ : z_St} {j : z_J} {y : z_R} : ∀ {cs : List (Int32 × Nat × List Bool)}, z_pick dd x ls st σ j cs = some y → (∃ (i : Nat) (c : Int32 × Nat × List Bool), cs[i]? = some c ∧ (∀ (i' : Nat) (c' : Int32 × Nat × List Bool), i' < i → cs[i']? = some c' → x ≠ c'.1) ∧ x = c.1 ∧ j c.2.1 (z_mask c.2.2 ls) st σ = some y) ∨ ((∀ c ∈ cs, x ≠ c.1) ∧ j dd.1 (z_mask dd.2 ls) st σ = some y)
  | [], h => .inr ⟨fun c hc => (by cases hc), h⟩
  | c :: cs, h => by
    have h : (if x = c.1 then j c.2.1 (z_mask c.2.2 ls) st σ else z_pick dd x ls st σ j cs) = some y := h
    by_cases hq : x = c.1
    · rw [if_pos hq] at h
      exact .inl ⟨0, c, rfl, fun i' c' h1 _ => absurd h1 (Nat.not_lt_zero _), hq, h⟩
    · rw [if_neg hq] at h
      rcases v_pick h with ⟨i, c', h1, h0, h2, h3⟩ | ⟨h1, h2⟩
      · refine .inl ⟨i + 1, c', h1, fun i' c'' g1 g2 => ?_, h2, h3⟩
        cases i' with
        | zero => cases g2; exact hq
        | succ i' => exact h0 i' c'' (by omega) g2
      · exact .inr ⟨fun c' hc => by
          rcases List.mem_cons.mp hc with e | e
          · rw [e]; exact hq
          · exact h1 c' e, h2⟩
/-- a tableswitch's cases are these -/
def z_tab (pc : Nat) (lo hi : Int) (offs : List Int) (bp : Nat → Nat) (cs : List (Int32 × Nat × List Bool)) : Bool :=
  decide (hi - lo + 1 = (cs.length : Int)) && (List.range cs.length).all fun i => match cs[i]?, offs[i]? with
    | some c, some o => decide (c.1.toInt = lo + i) && decide ((pc : Int) + o = (bp c.2.1 : Int))
    | _, _ => false
theorem tab_at {lo hi : Int} {offs : List Int} {cs : List (Int32 × Nat × List Bool)} (h : z_tab pc lo hi offs bp cs = true) : hi - lo + 1 = (cs.length : Int) ∧ ∀ (i : Nat) (c : Int32 × Nat × List Bool), cs[i]? = some c → ∃ o, offs[i]? = some o ∧ c.1.toInt = lo + i ∧ (pc : Int) + o = (bp c.2.1 : Int) := by
  unfold z_tab at h
  simp only [Bool.and_eq_true, decide_eq_true_eq, List.all_eq_true, List.mem_range] at h
  refine ⟨h.1, fun i c hc => ?_⟩
  have h2 := h.2 i (List.getElem?_eq_some_iff.mp hc).1
  rw [hc] at h2
  cases ho : offs[i]? with
  | none => rw [ho] at h2; cases h2
  | some o =>
    rw [ho] at h2
    simp only [Bool.and_eq_true, decide_eq_true_eq] at h2
    exact ⟨o, rfl, h2.1, h2.2⟩
theorem v_sw {cs : List (Int32 × Nat × List Bool)} {dd : Nat × List Bool} {ls : z_L} {st : List z_V} {σ : z_St} {j : z_J} {x : z_R} (h : zt_sw cs dd ls st σ j = some x) : ∃ y st', st = .inl y :: st' ∧ z_pick dd y ls st' σ j cs = some x := by
  match st, h with
  | .inl y :: st', h => exact ⟨y, st', rfl, h⟩
  | [], h => cases h
  | .inr _ :: _, h => cases h
theorem st_table {cs : List (Int32 × Nat × List Bool)} {dd : Nat × List Bool} {dflt lo hi : Int} {offs : Array Int} {len : Nat} (hc : z_tab pc lo hi offs.toList bp cs = true) (h0 : (pc : Int) + dflt = (bp dd.1 : Int)) (hd : decode cc pc = .ok (.tableswitch dflt lo hi offs, len)) : z_ST own cc nL d G l rt bp pc (zt_sw cs dd) := by
  intro p e R s m' args below meth c Q A φ0 σ0 σf r hx hR φ σ H locs ls lsA st hr hl hv j ho kk
  obtain ⟨y, st, rfl, h1⟩ := v_sw ho
  obtain ⟨t1, t2⟩ := tab_at hc
  rcases v_pick h1 with ⟨i, c0, g1, -, g2, g3⟩ | ⟨g1, g2⟩
  · obtain ⟨o, o1, o2, o3⟩ := t2 i c0 g1
    have hlt := (List.getElem?_eq_some_iff.mp g1).1
    have ey : y.toInt = lo + i := by rw [g2]; exact o2
    exact lv_tableIn hx.1.1 hx.1.2.1 hd (by omega) (by omega) (off := o) (by rw [show (y.toInt - lo).toNat = i by omega, ← Array.getElem?_toList]; exact o1) o3 (kk c0.2.1 _ st g3 (lr_mask _ hl) (vs_mask _ (vs_pop hv)))
  · refine lv_tableOut hx.1.1 hx.1.2.1 hd ?_ h0 (kk dd.1 _ st g2 (lr_mask _ hl) (vs_mask _ (vs_pop hv)))
    by_cases h3 : y.toInt < lo
    · exact Or.inl h3
    · right
      by_cases h4 : hi < y.toInt
      · exact h4
      · exfalso
        have hlt : (y.toInt - lo).toNat < cs.length := by omega
        obtain ⟨o, o1, o2, o3⟩ := t2 _ _ (List.getElem?_eq_getElem hlt)
        refine g1 _ (List.getElem_mem hlt) ?_
        apply Int32.toInt_inj.mp
        rw [o2]
        omega
/-- a lookupswitch's cases are these -/
def z_look (pc : Nat) (bp : Nat → Nat) : List (Int × Int) → List (Int32 × Nat × List Bool) → Bool
  | [], [] => true
  | (a, o) :: ps, c :: cs => decide (c.1.toInt = a) && decide ((pc : Int) + o = (bp c.2.1 : Int)) && z_look pc bp ps cs
  | _, _ => false
theorem look_at {dd : Nat × List Bool} {dflt : Int} (h0 : (pc : Int) + dflt = (bp dd.1 : Int)) {x : Int32} {ls : z_L} {st : List z_V} {σ : z_St} {j : z_J} {y : z_R} : ∀ {ps : List (Int × Int)} {cs : List (Int32 × Nat × List Bool)}, z_look pc bp ps cs = true → z_pick dd x ls st σ j cs = some y →
    ∃ (b : Nat) (m : List Bool), (pc : Int) + Op.lookupswitch.offset ps dflt x.toInt = (bp b : Int) ∧ j b (z_mask m ls) st σ = some y
  | [], [], _, h => ⟨dd.1, dd.2, h0, h⟩
  | (a, o) :: ps, c :: cs, hl, h => by
    have hl : (decide (c.1.toInt = a) && decide ((pc : Int) + o = (bp c.2.1 : Int)) && z_look pc bp ps cs) = true := hl
    simp only [Bool.and_eq_true, decide_eq_true_eq] at hl
    have h : (if x = c.1 then j c.2.1 (z_mask c.2.2 ls) st σ else z_pick dd x ls st σ j cs) = some y := h
    show ∃ (b : Nat) (m : List Bool), (pc : Int) + (if a = x.toInt then o else Op.lookupswitch.offset ps dflt x.toInt) = (bp b : Int) ∧ j b (z_mask m ls) st σ = some y
    by_cases hq : x = c.1
    · rw [if_pos hq] at h
      rw [if_pos (by rw [hq, hl.1.1])]
      exact ⟨c.2.1, c.2.2, hl.1.2, h⟩
    · rw [if_neg hq] at h
      rw [if_neg (fun e => hq (Int32.toInt_inj.mp (by rw [← e, hl.1.1])))]
      exact look_at h0 hl.2 h
  | [], _ :: _, hl, _ => by cases hl
  | (_, _) :: _, [], hl, _ => by cases hl
theorem st_lookup {cs : List (Int32 × Nat × List Bool)} {dd : Nat × List Bool} {dflt : Int} {ps : Array (Int × Int)} {len : Nat} (hc : z_look pc bp ps.toList cs = true) (h0 : (pc : Int) + dflt = (bp dd.1 : Int)) (hp : (ps.toList.zip (ps.toList.drop 1)).all (fun (a, next) => a.1 < next.1) = true) (hd : decode cc pc = .ok (.lookupswitch dflt ps, len)) : z_ST own cc nL d G l rt bp pc (zt_sw cs dd) := by
  intro p e R s m' args below meth c Q A φ0 σ0 σf r hx hR φ σ H locs ls lsA st hr hl hv j ho kk
  obtain ⟨y, st, rfl, h1⟩ := v_sw ho
  obtain ⟨b, m, g1, g2⟩ := look_at h0 hc h1
  exact lv_lookup hx.1.1 hx.1.2.1 hd hp rfl g1 (kk b _ st g2 (lr_mask m hl) (vs_mask m (vs_pop hv)))
theorem st_if_eq {b1 b2 : Nat} {m1 m2 : List Bool} {off : Int} (h1 : (pc : Int) + off = (bp b1 : Int)) (h2 : bp b2 = pc + 3) (hd : decode cc pc = .ok (.ifCond .eq off, 3)) : z_ST own cc nL d G l rt bp pc (zt_if (fun x => x = 0) b1 m1 b2 m2) := by
  intro p e R s m' args below meth c Q A φ0 σ0 σf r hx hR φ σ H locs ls lsA st hr hl hv j ho kk
  obtain ⟨y, st, rfl, k1, k2⟩ := v_if ho
  exact lv_if_eq hx.1.1 hx.1.2.1 hd h1 (fun q => kk b1 _ st (k1 q) (lr_mask m1 hl) (vs_mask m1 (vs_pop hv))) (fun q => by
    have kk := kk b2 _ st (k2 q) (lr_mask m2 hl) (vs_mask m2 (vs_pop hv))
    rw [h2] at kk
    exact kk)
theorem st_icmp_eq {b1 b2 : Nat} {m1 m2 : List Bool} {off : Int} (h1 : (pc : Int) + off = (bp b1 : Int)) (h2 : bp b2 = pc + 3) (hd : decode cc pc = .ok (.if_icmp .eq off, 3)) : z_ST own cc nL d G l rt bp pc (zt_icmp (fun x y => x = y) b1 m1 b2 m2) := by
  intro p e R s m' args below meth c Q A φ0 σ0 σf r hx hR φ σ H locs ls lsA st hr hl hv j ho kk
  obtain ⟨y, z, st, rfl, k1, k2⟩ := v_icmp ho
  exact lv_icmp_eq hx.1.1 hx.1.2.1 hd h1 (fun q => kk b1 _ st (k1 q) (lr_mask m1 hl) (vs_mask m1 (vs_pop (vs_pop hv)))) (fun q => by
    have kk := kk b2 _ st (k2 q) (lr_mask m2 hl) (vs_mask m2 (vs_pop (vs_pop hv)))
    rw [h2] at kk
    exact kk)
theorem st_if_ne {b1 b2 : Nat} {m1 m2 : List Bool} {off : Int} (h1 : (pc : Int) + off = (bp b2 : Int)) (h2 : bp b1 = pc + 3) (hd : decode cc pc = .ok (.ifCond .ne off, 3)) : z_ST own cc nL d G l rt bp pc (zt_if (fun x => x = 0) b1 m1 b2 m2) := by
  intro p e R s m' args below meth c Q A φ0 σ0 σf r hx hR φ σ H locs ls lsA st hr hl hv j ho kk
  obtain ⟨y, st, rfl, k1, k2⟩ := v_if ho
  exact lv_if_ne hx.1.1 hx.1.2.1 hd h1 (fun q => kk b2 _ st (k2 q) (lr_mask m2 hl) (vs_mask m2 (vs_pop hv))) (fun q => by
    have kk := kk b1 _ st (k1 q) (lr_mask m1 hl) (vs_mask m1 (vs_pop hv))
    rw [h2] at kk
    exact kk)
theorem st_icmp_ne {b1 b2 : Nat} {m1 m2 : List Bool} {off : Int} (h1 : (pc : Int) + off = (bp b2 : Int)) (h2 : bp b1 = pc + 3) (hd : decode cc pc = .ok (.if_icmp .ne off, 3)) : z_ST own cc nL d G l rt bp pc (zt_icmp (fun x y => x = y) b1 m1 b2 m2) := by
  intro p e R s m' args below meth c Q A φ0 σ0 σf r hx hR φ σ H locs ls lsA st hr hl hv j ho kk
  obtain ⟨y, z, st, rfl, k1, k2⟩ := v_icmp ho
  exact lv_icmp_ne hx.1.1 hx.1.2.1 hd h1 (fun q => kk b2 _ st (k2 q) (lr_mask m2 hl) (vs_mask m2 (vs_pop (vs_pop hv)))) (fun q => by
    have kk := kk b1 _ st (k1 q) (lr_mask m1 hl) (vs_mask m1 (vs_pop (vs_pop hv)))
    rw [h2] at kk
    exact kk)
theorem st_if_lt {b1 b2 : Nat} {m1 m2 : List Bool} {off : Int} (h1 : (pc : Int) + off = (bp b1 : Int)) (h2 : bp b2 = pc + 3) (hd : decode cc pc = .ok (.ifCond .lt off, 3)) : z_ST own cc nL d G l rt bp pc (zt_if (fun x => x < 0) b1 m1 b2 m2) := by
  intro p e R s m' args below meth c Q A φ0 σ0 σf r hx hR φ σ H locs ls lsA st hr hl hv j ho kk
  obtain ⟨y, st, rfl, k1, k2⟩ := v_if ho
  exact lv_if_lt hx.1.1 hx.1.2.1 hd h1 (fun q => kk b1 _ st (k1 q) (lr_mask m1 hl) (vs_mask m1 (vs_pop hv))) (fun q => by
    have kk := kk b2 _ st (k2 q) (lr_mask m2 hl) (vs_mask m2 (vs_pop hv))
    rw [h2] at kk
    exact kk)
theorem st_icmp_lt {b1 b2 : Nat} {m1 m2 : List Bool} {off : Int} (h1 : (pc : Int) + off = (bp b1 : Int)) (h2 : bp b2 = pc + 3) (hd : decode cc pc = .ok (.if_icmp .lt off, 3)) : z_ST own cc nL d G l rt bp pc (zt_icmp (fun x y => x < y) b1 m1 b2 m2) := by
  intro p e R s m' args below meth c Q A φ0 σ0 σf r hx hR φ σ H locs ls lsA st hr hl hv j ho kk
  obtain ⟨y, z, st, rfl, k1, k2⟩ := v_icmp ho
  exact lv_icmp_lt hx.1.1 hx.1.2.1 hd h1 (fun q => kk b1 _ st (k1 q) (lr_mask m1 hl) (vs_mask m1 (vs_pop (vs_pop hv)))) (fun q => by
    have kk := kk b2 _ st (k2 q) (lr_mask m2 hl) (vs_mask m2 (vs_pop (vs_pop hv)))
    rw [h2] at kk
    exact kk)
theorem st_if_ge {b1 b2 : Nat} {m1 m2 : List Bool} {off : Int} (h1 : (pc : Int) + off = (bp b1 : Int)) (h2 : bp b2 = pc + 3) (hd : decode cc pc = .ok (.ifCond .ge off, 3)) : z_ST own cc nL d G l rt bp pc (zt_if (fun x => 0 ≤ x) b1 m1 b2 m2) := by
  intro p e R s m' args below meth c Q A φ0 σ0 σf r hx hR φ σ H locs ls lsA st hr hl hv j ho kk
  obtain ⟨y, st, rfl, k1, k2⟩ := v_if ho
  exact lv_if_ge hx.1.1 hx.1.2.1 hd h1 (fun q => kk b1 _ st (k1 q) (lr_mask m1 hl) (vs_mask m1 (vs_pop hv))) (fun q => by
    have kk := kk b2 _ st (k2 q) (lr_mask m2 hl) (vs_mask m2 (vs_pop hv))
    rw [h2] at kk
    exact kk)
theorem st_icmp_ge {b1 b2 : Nat} {m1 m2 : List Bool} {off : Int} (h1 : (pc : Int) + off = (bp b1 : Int)) (h2 : bp b2 = pc + 3) (hd : decode cc pc = .ok (.if_icmp .ge off, 3)) : z_ST own cc nL d G l rt bp pc (zt_icmp (fun x y => y ≤ x) b1 m1 b2 m2) := by
  intro p e R s m' args below meth c Q A φ0 σ0 σf r hx hR φ σ H locs ls lsA st hr hl hv j ho kk
  obtain ⟨y, z, st, rfl, k1, k2⟩ := v_icmp ho
  exact lv_icmp_ge hx.1.1 hx.1.2.1 hd h1 (fun q => kk b1 _ st (k1 q) (lr_mask m1 hl) (vs_mask m1 (vs_pop (vs_pop hv)))) (fun q => by
    have kk := kk b2 _ st (k2 q) (lr_mask m2 hl) (vs_mask m2 (vs_pop (vs_pop hv)))
    rw [h2] at kk
    exact kk)
theorem st_if_gt {b1 b2 : Nat} {m1 m2 : List Bool} {off : Int} (h1 : (pc : Int) + off = (bp b1 : Int)) (h2 : bp b2 = pc + 3) (hd : decode cc pc = .ok (.ifCond .gt off, 3)) : z_ST own cc nL d G l rt bp pc (zt_if (fun x => 0 < x) b1 m1 b2 m2) := by
  intro p e R s m' args below meth c Q A φ0 σ0 σf r hx hR φ σ H locs ls lsA st hr hl hv j ho kk
  obtain ⟨y, st, rfl, k1, k2⟩ := v_if ho
  exact lv_if_gt hx.1.1 hx.1.2.1 hd h1 (fun q => kk b1 _ st (k1 q) (lr_mask m1 hl) (vs_mask m1 (vs_pop hv))) (fun q => by
    have kk := kk b2 _ st (k2 q) (lr_mask m2 hl) (vs_mask m2 (vs_pop hv))
    rw [h2] at kk
    exact kk)
theorem st_icmp_gt {b1 b2 : Nat} {m1 m2 : List Bool} {off : Int} (h1 : (pc : Int) + off = (bp b1 : Int)) (h2 : bp b2 = pc + 3) (hd : decode cc pc = .ok (.if_icmp .gt off, 3)) : z_ST own cc nL d G l rt bp pc (zt_icmp (fun x y => y < x) b1 m1 b2 m2) := by
  intro p e R s m' args below meth c Q A φ0 σ0 σf r hx hR φ σ H locs ls lsA st hr hl hv j ho kk
  obtain ⟨y, z, st, rfl, k1, k2⟩ := v_icmp ho
  exact lv_icmp_gt hx.1.1 hx.1.2.1 hd h1 (fun q => kk b1 _ st (k1 q) (lr_mask m1 hl) (vs_mask m1 (vs_pop (vs_pop hv)))) (fun q => by
    have kk := kk b2 _ st (k2 q) (lr_mask m2 hl) (vs_mask m2 (vs_pop (vs_pop hv)))
    rw [h2] at kk
    exact kk)
theorem st_if_le {b1 b2 : Nat} {m1 m2 : List Bool} {off : Int} (h1 : (pc : Int) + off = (bp b1 : Int)) (h2 : bp b2 = pc + 3) (hd : decode cc pc = .ok (.ifCond .le off, 3)) : z_ST own cc nL d G l rt bp pc (zt_if (fun x => x ≤ 0) b1 m1 b2 m2) := by
  intro p e R s m' args below meth c Q A φ0 σ0 σf r hx hR φ σ H locs ls lsA st hr hl hv j ho kk
  obtain ⟨y, st, rfl, k1, k2⟩ := v_if ho
  exact lv_if_le hx.1.1 hx.1.2.1 hd h1 (fun q => kk b1 _ st (k1 q) (lr_mask m1 hl) (vs_mask m1 (vs_pop hv))) (fun q => by
    have kk := kk b2 _ st (k2 q) (lr_mask m2 hl) (vs_mask m2 (vs_pop hv))
    rw [h2] at kk
    exact kk)
theorem st_icmp_le {b1 b2 : Nat} {m1 m2 : List Bool} {off : Int} (h1 : (pc : Int) + off = (bp b1 : Int)) (h2 : bp b2 = pc + 3) (hd : decode cc pc = .ok (.if_icmp .le off, 3)) : z_ST own cc nL d G l rt bp pc (zt_icmp (fun x y => x ≤ y) b1 m1 b2 m2) := by
  intro p e R s m' args below meth c Q A φ0 σ0 σf r hx hR φ σ H locs ls lsA st hr hl hv j ho kk
  obtain ⟨y, z, st, rfl, k1, k2⟩ := v_icmp ho
  exact lv_icmp_le hx.1.1 hx.1.2.1 hd h1 (fun q => kk b1 _ st (k1 q) (lr_mask m1 hl) (vs_mask m1 (vs_pop (vs_pop hv)))) (fun q => by
    have kk := kk b2 _ st (k2 q) (lr_mask m2 hl) (vs_mask m2 (vs_pop (vs_pop hv)))
    rw [h2] at kk
    exact kk)
theorem st_iret (hrt : rt = some .int) (hd : decode cc pc = .ok (.ireturn, 1)) : z_ST own cc nL d G l rt bp pc zt_iret := by
  intro p e R s m' args below meth c Q A φ0 σ0 σf r hx hR φ σ H locs ls lsA st hr hl hv j ho kk
  subst hrt
  match st, hv, ho with
  | [.inl x], hv, ho =>
    cases ho
    exact hR φ H locs ls pc hd ⟨x, rfl⟩ hr (fun v e => by cases e; exact vv_I _ _)
  | [], _, ho => cases ho
  | .inr _ :: _, _, ho => cases ho
  | .inl _ :: _ :: _, _, ho => cases ho
theorem st_zret (hrt : rt = some .boolean) (hd : decode cc pc = .ok (.ireturn, 1)) : z_ST own cc nL d G l rt bp pc zt_zret := by
  intro p e R s m' args below meth c Q A φ0 σ0 σf r hx hR φ σ H locs ls lsA st hr hl hv j ho kk
  subst hrt
  match st, hv, ho with
  | [.inl x], hv, ho =>
    obtain ⟨hz, ho⟩ := v_gd ho
    cases ho
    exact hR φ H locs ls pc hd ⟨x, rfl, hz⟩ hr (fun v e => by cases e; exact vv_I _ _)
  | [], _, ho => cases ho
  | .inr _ :: _, _, ho => cases ho
  | .inl _ :: _ :: _, _, ho => cases ho
theorem st_lret (hrt : rt = some .long) (hd : decode cc pc = .ok (.lreturn, 1)) : z_ST own cc nL d G l rt bp pc zt_lret := by
  intro p e R s m' args below meth c Q A φ0 σ0 σf r hx hR φ σ H locs ls lsA st hr hl hv j ho kk
  subst hrt
  match st, hv, ho with
  | [.inr (.inl x)], hv, ho =>
    cases ho
    exact hR φ H locs ls pc hd ⟨x, rfl⟩ hr (fun v e => by cases e; exact vv_J _ _)
  | [], _, ho => cases ho
  | .inl _ :: _, _, ho => cases ho
  | .inr (.inr _) :: _, _, ho => cases ho
  | .inr (.inl _) :: _ :: _, _, ho => cases ho
theorem st_aret {E : String} (hrt : rt = some (.object E)) (hd : decode cc pc = .ok (.areturn, 1)) : z_ST own cc nL d G l rt bp pc zt_aret := by
  intro p e R s m' args below meth c Q A φ0 σ0 σf r hx hR φ σ H locs ls lsA st hr hl hv j ho kk
  subst hrt
  match st, hv, ho with
  | [.inr (.inr x)], hv, ho =>
    cases ho
    exact hR φ H locs ls pc hd ⟨x, rfl⟩ hr (fun v e => by cases e; exact vs_top hv)
  | [], _, ho => cases ho
  | .inl _ :: _, _, ho => cases ho
  | .inr (.inl _) :: _, _, ho => cases ho
  | .inr (.inr _) :: _ :: _, _, ho => cases ho
theorem st_aretA {E : FieldType} (hrt : rt = some (.array E)) (hd : decode cc pc = .ok (.areturn, 1)) : z_ST own cc nL d G l rt bp pc zt_aret := by
  intro p e R s m' args below meth c Q A φ0 σ0 σf r hx hR φ σ H locs ls lsA st hr hl hv j ho kk
  subst hrt
  match st, hv, ho with
  | [.inr (.inr x)], hv, ho =>
    cases ho
    exact hR φ H locs ls pc hd ⟨x, rfl⟩ hr (fun v e => by cases e; exact vs_top hv)
  | [], _, ho => cases ho
  | .inl _ :: _, _, ho => cases ho
  | .inr (.inl _) :: _, _, ho => cases ho
  | .inr (.inr _) :: _ :: _, _, ho => cases ho
theorem st_vret (hrt : rt = none) (hd : decode cc pc = .ok (.return_, 1)) : z_ST own cc nL d G l rt bp pc zt_vret := by
  intro p e R s m' args below meth c Q A φ0 σ0 σf r hx hR φ σ H locs ls lsA st hr hl hv j ho kk
  subst hrt
  match st, hv, ho with
  | [], hv, ho =>
    cases ho
    exact hR φ H locs ls pc hd rfl hr (fun v e => by cases e)
  | _ :: _, _, ho => cases ho
end SNT
