/-! PART 12: a block, a method; all methods by depth -/
/-- a block at pc is sound -/
def z_SB (own : String) (cc : ByteArray) (nL : Nat) (ini : Bool) (d : Nat) (G : z_G) (l : Launch) (C : z_O) (rt : Option FieldType) (bp : Nat → Nat) (pc : Nat) (os : List z_Op) (t : z_Tm) : Prop :=
  ((∀ o ∈ os, z_tame o) ∧ z_tameT t) ∧
  ∀ (p : Program) (e : Env) (R : Room) (s : State) (m : MethodId) (args : Array Value) (below : List Frame) (meth : Method) (c : Code) (Q : State → Prop) (A : Nat → Prop) (φ0 : z_Ad → Nat) (σ0 σf : z_St) (r : Option z_V),
    z_cx own cc nL d G p R s m args meth c A σ0 σf → (ini = true → meth.name = "<init>") → z_RH rt cc G p l e R s m args below meth c Q A φ0 σ0 σf r →
    ∀ (j : z_J), (∀ b ls' st' σ', j b ls' st' σ' = some (σf, r) → al σ' <+: al σf) →
    (∀ (b : Nat) (φ' : z_Ad → Nat) (σ' : z_St) (H' : Heap) (locs' : List Loc) (ls' : Array Slot) (lsA' : z_L) (st' : List z_V), j b lsA' st' σ' = some (σf, r) → z_rel G s A φ0 σ0 φ' σ' H' locs' → z_lr φ' lsA' ls' nL → z_vs σ' lsA' st' →
      z_WW p l e R s m args below meth c Q σ0 σ' H' locs' (F0 m (bp b) ls' (st'.map (rv φ')))) →
    ∀ (φ : z_Ad → Nat) (σ : z_St) (H : Heap) (locs : List Loc) (ls : Array Slot) (lsA : z_L) (st : List z_V), z_rel G s A φ0 σ0 φ σ H locs → z_lr φ lsA ls nL → z_vs σ lsA st →
    z_run os t C lsA st σ j = some (σf, r) → z_WW p l e R s m args below meth c Q σ0 σ H locs (F0 m pc ls (st.map (rv φ)))
section SBL
variable {own : String} {cc : ByteArray} {nL d pc n : Nat} {ini : Bool} {G : z_G} {l : Launch} {C : z_O} {rt : Option FieldType} {bp : Nat → Nat}
theorem sb_nil {t : z_Tm} (ht : z_tameT t) (h : z_ST own cc nL d G l rt bp pc t) : z_SB own cc nL ini d G l C rt bp pc [] t := by
  refine ⟨⟨fun o ho => (by cases ho), ht⟩, ?_⟩
  intro p e R s m args below meth c Q A φ0 σ0 σf r hx hi hR j hj kk φ σ H locs ls lsA st hr hl hv ho
  exact h p e R s m args below meth c Q A φ0 σ0 σf r hx hR φ σ H locs ls lsA st hr hl hv j ho (fun b lsA' st' h1 h2 h3 => kk b φ σ H locs ls lsA' st' h1 hr h2 h3)
theorem sb_cons {o : z_Op} {os : List z_Op} {t : z_Tm} (hC : z_mono C) (to : z_tame o) (h : z_SO own cc nL ini d G l C pc n o) (hs : z_SB own cc nL ini d G l C rt bp (pc + n) os t) : z_SB own cc nL ini d G l C rt bp pc (o :: os) t := by
  refine ⟨⟨fun o' ho => by
    rcases List.mem_cons.mp ho with e | e
    · rw [e]; exact to
    · exact hs.1.1 o' e, hs.1.2⟩, ?_⟩
  intro p e R s m args below meth c Q A φ0 σ0 σf r hx hi hR j hj kk φ σ H locs ls lsA st hr hl hv ho
  refine h p e R s m args below meth c Q A φ0 σ0 σf r hx hi φ σ H locs ls lsA st hr hl hv (fun ls st σ => z_run os t C ls st σ j) (fun ls' st' σ' hk => ?_) ho (fun φ' σ' H' locs' ls' lsA' st' g1 g2 g3 g4 => hs.2 p e R s m args below meth c Q A φ0 σ0 σf r hx hi hR j hj kk φ' σ' H' locs' ls' lsA' st' g1 g2 g3 g4)
  rcases z_run_tame hs.1.2 hC hs.1.1 ls' st' σ' with ⟨x, h1, h2⟩ | ⟨b, l', s', σ2, h1, h2⟩
  · exact h2 _ _ ((h1 j).symm.trans hk)
  · exact h1.trans (hj _ _ _ _ ((h2 j).symm.trans hk))
theorem sb_dead : z_SB own cc nL ini d G l C rt bp pc z_dead.1 z_dead.2 := by
  refine sb_nil tz_none ?_
  intro p e R s m' args below meth c Q A φ0 σ0 σf r hx hR φ σ H locs ls lsA st hr hl hv j ho kk
  cases ho
/-- every block of a method is sound -/
def z_SM (own : String) (cc : ByteArray) (nL : Nat) (ini : Bool) (d : Nat) (G : z_G) (l : Launch) (C : z_O) (rt : Option FieldType) (bp : Nat → Nat) (P : z_M) : Prop := ∀ b, z_SB own cc nL ini d G l C rt bp (bp b) (P b).1 (P b).2
theorem sm_tame {P : z_M} (h : z_SM own cc nL ini d G l C rt bp P) : z_tameM P := fun b => (h b).1
theorem sm_it {P : z_M} (hC : z_mono C) (hM : z_SM own cc nL ini d G l C rt bp P) {p : Program} {e : Env} {R : Room} {s : State} {m : MethodId} {args : Array Value} {below : List Frame} {meth : Method} {c : Code} {Q : State → Prop} {A : Nat → Prop} {φ0 : z_Ad → Nat} {σ0 σf : z_St} {r : Option z_V}
    (hx : z_cx own cc nL d G p R s m args meth c A σ0 σf) (hi : ini = true → meth.name = "<init>") (hR : z_RH rt cc G p l e R s m args below meth c Q A φ0 σ0 σf r) :
    ∀ (n b : Nat) (φ : z_Ad → Nat) (σ : z_St) (H : Heap) (locs : List Loc) (ls : Array Slot) (lsA : z_L) (st : List z_V), z_it P C n b lsA st σ = some (σf, r) → z_rel G s A φ0 σ0 φ σ H locs → z_lr φ lsA ls nL → z_vs σ lsA st → z_WW p l e R s m args below meth c Q σ0 σ H locs (F0 m (bp b) ls (st.map (rv φ)))
  | 0, _, _, _, _, _, _, _, _, h, _, _, _ => by cases h
  | n + 1, b, φ, σ, H, locs, ls, lsA, st, h, hr, hl, hv => by
    refine (hM b).2 p e R s m args below meth c Q A φ0 σ0 σf r hx hi hR (z_it P C n) (fun b' ls' st' σ' hk => z_it_pre (sm_tame hM) hC n b' ls' st' σ' σf r hk) (fun b' φ' σ' H' locs' ls' lsA' st' h1 h2 h3 h4 => ?_) φ σ H locs ls lsA st hr hl hv h
    exact sm_it hC hM hx hi hR n b' φ' σ' H' locs' ls' lsA' st' h1 h2 h3 h4
/-! arguments -/
theorem args_at (φ : z_Ad → Nat) : ∀ (as : List z_V) (o i : Nat) (v : z_V), z_get (z_arg as) i = some v → (o + i, rv φ v) ∈ lv_args o (as.map (rv φ))
  | [], _, _, _, h => by cases h
  | .inl x :: as, o, 0, v, h => by
    cases h
    exact List.mem_cons_self
  | .inl x :: as, o, i + 1, v, h => by
    refine List.mem_cons_of_mem _ ?_
    have h1 := args_at φ as (o + 1) i v h
    rw [show o + 1 + i = o + (i + 1) by omega] at h1
    exact h1
  | .inr (.inr q) :: as, o, 0, v, h => by
    cases h
    exact List.mem_cons_self
  | .inr (.inr q) :: as, o, i + 1, v, h => by
    refine List.mem_cons_of_mem _ ?_
    have h1 := args_at φ as (o + 1) i v h
    rw [show o + 1 + i = o + (i + 1) by omega] at h1
    rw [if_neg (by rw [rv_cat]; exact (by decide : ¬ (1 : Nat) = 2))]
    exact h1
  | .inr (.inl x) :: as, o, 0, v, h => by
    cases h
    exact List.mem_cons_self
  | .inr (.inl x) :: as, o, 1, v, h => by cases h
  | .inr (.inl x) :: as, o, i + 2, v, h => by
    refine List.mem_cons_of_mem _ ?_
    have h1 := args_at φ as (o + 2) i v h
    rw [show o + 2 + i = o + (i + 2) by omega] at h1
    exact h1
theorem get_pad : ∀ (n : Nat) (ls : z_L) (i : Nat) (v : z_V), z_get (z_pad n ls) i = some v → z_get ls i = some v
  | 0, _, _, _, h => by cases h
  | n + 1, [], 0, _, h => by cases h
  | n + 1, [], i + 1, v, h => get_pad n [] i v h
  | n + 1, a :: l, 0, _, h => h
  | n + 1, a :: l, i + 1, v, h => get_pad n l i v h
theorem arg_mem : ∀ (as : List z_V) (i : Nat) (v : z_V), z_get (z_arg as) i = some v → v ∈ as
  | [], _, _, h => by cases h
  | .inl x :: as, 0, v, h => by cases h; exact List.mem_cons_self
  | .inl x :: as, i + 1, v, h => List.mem_cons_of_mem _ (arg_mem as i v h)
  | .inr (.inr q) :: as, 0, v, h => by cases h; exact List.mem_cons_self
  | .inr (.inr q) :: as, i + 1, v, h => List.mem_cons_of_mem _ (arg_mem as i v h)
  | .inr (.inl x) :: as, 0, v, h => by cases h; exact List.mem_cons_self
  | .inr (.inl x) :: as, 1, v, h => by cases h
  | .inr (.inl x) :: as, i + 2, v, h => List.mem_cons_of_mem _ (arg_mem as i v h)
theorem sl_len (φ : z_Ad → Nat) : ∀ as : List z_V, (lg_sl (as.map (rv φ))).length = (z_arg as).length
  | [] => rfl
  | .inl x :: as => by
    show (_ :: lg_sl (as.map (rv φ))).length = _
    rw [List.length_cons, sl_len φ as]
    rfl
  | .inr (.inr q) :: as => by
    have h : lg_sl ((.inr (.inr q) :: as : List z_V).map (rv φ)) = .val (rv φ (.inr (.inr q))) :: lg_sl (as.map (rv φ)) := by
      show (if (rv φ (.inr (.inr q))).category = 2 then _ else _) ++ lg_sl (as.map (rv φ)) = _
      rw [if_neg (by rw [rv_cat]; exact (by decide : ¬ (1 : Nat) = 2))]
      rfl
    rw [h, List.length_cons, sl_len φ as]
    rfl
  | .inr (.inl x) :: as => by
    show (_ :: _ :: lg_sl (as.map (rv φ))).length = _
    rw [List.length_cons, List.length_cons, sl_len φ as]
    rfl
theorem rf_or (x : Option Nat) : va_rf x = .null ∨ ∃ a, va_rf x = .ref a := by
  cases x with
  | none => exact Or.inl rfl
  | some a => exact Or.inr ⟨a, rfl⟩
set_option maxHeartbeats 400000 in
/-- the generic return -/
theorem rh_met {p : Program} {e : Env} {R : Room} {s : State} {m : MethodId} {args : Array Value} {below : List Frame} {meth : Method} {c : Code} {φ0 : z_Ad → Nat} {σ0 σf : z_St} {r : Option z_V} (hexec : p.tables.exec = Jvm.exec) (hb : c.code = cc) (hret : meth.sig.returnType = rt) (hlocks : meth.locks = false) :
    z_RH rt cc G p l e R s m args below meth c (MQ below (z_Qc G φ0 σ0 σf r s.heap.size) args s ((al σf).length - (al σ0).length) (z_sl (al σf) - z_sl (al σ0)) (z_A G φ0 σ0 s.heap.size)) (z_A G φ0 σ0 s.heap.size) φ0 σ0 σf r := by
  intro φ H locs ls pc hd hrt hr hvr
  have hq : ∀ t : State, t.heap = H → z_Qc G φ0 σ0 σf r s.heap.size args s (.returned (r.map (rv φ))) t := by
    intro t ht
    refine ⟨φ, rfl, hr.2.2.2.2.2.2.2.1, by rw [ht]; exact hr.1, hr.2.1, hr.2.2.2.1, hvr, hr.2.2.2.2.2.2.2.2, ?_⟩
    exact hr.2.2.1.F ht
  unfold z_WW
  match rt, r, hrt, hd, hret with
  | none, _, hrt, hd, hret =>
    have hrt : _ = none := hrt
    subst hrt
    exact W.vret hexec hb hret (fun t ht _ => hq t ht) hr.2.2.1.2.2 hd hlocks
  | some .int, _, ⟨x, rfl⟩, hd, hret => exact W.iret hexec hb hret (fun t ht _ => hq t ht) hr.2.2.1.2.2 hd hlocks
  | some .boolean, _, ⟨x, rfl, hz⟩, hd, hret => exact W.zret hexec hb hret (by rcases hz with h | h <;> subst h <;> rfl) (fun t ht _ => hq t ht) hr.2.2.1.2.2 hd hlocks
  | some .long, _, ⟨x, rfl⟩, hd, hret => exact W.lret hexec hb hret (fun t ht _ => hq t ht) hr.2.2.1.2.2 hd hlocks
  | some (.object E), _, ⟨q, rfl⟩, hd, hret => exact W.aret hexec hb hret (Or.inl ⟨E, rfl⟩) (rf_or (q.map φ)) (fun t ht _ => hq t ht) hr.2.2.1.2.2 hd hlocks
  | some (.array E), _, ⟨q, rfl⟩, hd, hret => exact W.aret hexec hb hret (Or.inr ⟨E, rfl⟩) (rf_or (q.map φ)) (fun t ht _ => hq t ht) hr.2.2.1.2.2 hd hlocks
  | some .byte, _, hrt, _, _ => exact absurd hrt id
  | some .char, _, hrt, _, _ => exact absurd hrt id
  | some .short, _, hrt, _, _ => exact absurd hrt id
  | some .float, _, hrt, _, _ => exact absurd hrt id
  | some .double, _, hrt, _, _ => exact absurd hrt id
set_option maxHeartbeats 400000 in
/-- a method whose blocks are sound keeps its contract -/
theorem met_of {yn : MethodName} {P : z_M} (hpl : plainName yn.cls = true) (hown : yn.cls = own) (hini : ini = true → yn.name = "<init>") (hC : z_mono C) (hM : z_SM own cc nL ini d G l C rt bp P) (hb0 : bp 0 = 0) {φ : z_Ad → Nat} {σ σf : z_St} {as : List z_V} {r : Option z_V} {sz : Nat} (hlen : (z_arg as).length ≤ nL)
    (h : E P C 0 (z_pad nL (z_arg as)) [] σ = some (σf, r)) : z_Met l G (d + 1) (yn, cc, nL, rt) φ σ as σf r sz := by
  unfold z_Met
  refine Met.ofW (cc := cc) (maxL := nL) (ret := rt) hpl rfl ?_
  intro p e s m args below meth c s₁ B hml hv
  obtain ⟨rfl, hsz, hK, hP, hD, hok, hvv, hφ, hRO, hnw⟩ := hv
  subst hsz
  have hts := atoms_spec (ws := ws_ yn cc nL rt) B.pre
  have hts : ∀ w ∈ lw_all, w.before _ s = true := fun w h => hts w (List.mem_cons_of_mem _ h)
  have hown2 : s.vm.findClass own = some m.cls := by rw [← hown]; exact findClass_of_methodNamed B.named
  obtain ⟨n, hn⟩ := (E_iff (sm_tame hM) hC).mp h
  have hrel : z_rel G s (z_A G φ σ s.heap.size) φ σ φ σ s.heap [] :=
    ⟨hP, hD.self, va_S.rf, hok, hφ, hRO, List.prefix_rfl, fun _ _ => rfl, rfl, rfl⟩
  have hl := lv_entry (as.map (rv φ)) (n := nL) (by rw [sl_len]; exact hlen)
  rw [lg_entry_eq]
  generalize (lg_sl (as.map (rv φ)) ++ List.replicate (nL - (lg_sl (as.map (rv φ))).length) Slot.unset).toArray = ls at hl ⊢
  have hlr : z_lr φ (z_pad nL (z_arg as)) ls nL := ⟨⟨hl.1, hl.2.1, fun q hq => by cases hq⟩, fun i v hi => by
    have h1 := args_at φ as 0 i v (get_pad _ _ _ _ hi)
    rw [Nat.zero_add] at h1
    exact hl.2.2 _ h1⟩
  have hvs : z_vs σ (z_pad nL (z_arg as)) [] := ⟨fun i v hi => hvv v (arg_mem as i v (get_pad _ _ _ _ hi)), fun v hv => by cases hv⟩
  have hA : ∀ q : Nat, s.heap.size ≤ q → z_A G φ σ s.heap.size q := fun q h => Or.inr h
  have hx : z_cx own cc nL d G p (headSpec (ws_ yn cc nL rt) { frames := d + 1, cells := (al σf).length - (al σ).length, slots := z_sl (al σf) - z_sl (al σ), locals := 200 * (d + 1) }).room s m _ meth c (z_A G φ σ s.heap.size) σ σf :=
    ⟨⟨B.exec, B.bytes, hml, hown2⟩, hts, hnw, hK, hA, ⟨Nat.le_refl _, Nat.le_refl _⟩, ⟨Nat.le_refl _, Nat.le_refl _⟩⟩
  have hi : ini = true → meth.name = "<init>" := fun q => by rw [← hini q]; exact (name_of_methodNamed B.named B.method).1
  have key := sm_it hC hM hx hi (rh_met (e := e) (below := below) (G := G) (l := l) (rt := rt) (φ0 := φ) (σ0 := σ) (σf := σf) (r := r) B.exec B.bytes B.returns B.notSynchronized) n 0 φ σ s.heap [] ls _ [] hn hrel hlr hvs
  unfold z_WW at key
  rw [hb0, Nat.sub_self, Nat.sub_self] at key
  exact key
end SBL
