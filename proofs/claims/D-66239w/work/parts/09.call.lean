/-! PART 09: calls, blocks, methods -/
def z_A (G : z_G) (φ : z_Ad → Nat) (σ : z_St) (sz : Nat) : Nat → Prop := va_A (z_ws G φ σ) sz
def z_Pc (G : z_G) (φ : z_Ad → Nat) (σ : z_St) (as : List z_V) (sz : Nat) : Array Value → State → Prop := fun v U =>
  v = (as.map (rv φ)).toArray ∧ U.heap.size = sz ∧ va_K (z_D2 G) z_CL (z_tys G) U ∧ va_P (z_D2 G) z_CL (z_ws G φ σ) U.heap ∧ va_D (fun _ => True) (z_ws G φ σ) ∧ z_ok σ ∧ (∀ v ∈ as, z_vv σ v) ∧ (∀ q : z_Ad, 12 ≤ q.1 → q.1 ≤ 15 → φ q = G.2.2.2 q) ∧
  z_RO G (z_A G φ σ sz) (cn σ 14) (gI σ 14 0) U U.heap ∧ ∀ w ∈ lw_tbl, z_isN w = true → va_Nw w U
def z_Qc (G : z_G) (φ : z_Ad → Nat) (σ σf : z_St) (r : Option z_V) (sz : Nat) : Array Value → State → Outcome → State → Prop := fun _ st oc t =>
  ∃ φ' : z_Ad → Nat, oc = .returned (r.map (rv φ')) ∧ (∀ q, z_val σ q → φ' q = φ q) ∧ va_P (z_D2 G) z_CL (z_ws G φ' σf) t.heap ∧ va_D (z_A G φ σ sz) (z_ws G φ' σf) ∧ z_ok σf ∧ (∀ v, r = some v → z_vv σf v) ∧ (cn σf 14 = cn σ 14 ∧ gI σf 14 0 = gI σ 14 0) ∧ va_F (z_A G φ σ sz) st t
/-- method y's contract at depth d, for a run of the simple machine from σ to σf -/
def z_Met (l : Launch) (G : z_G) (d : Nat) (tb : MethodName × ByteArray × Nat × Option FieldType) (φ : z_Ad → Nat) (σ : z_St) (as : List z_V) (σf : z_St) (r : Option z_V) (sz : Nat) : Prop :=
  Met l tb.1 (ws_ tb.1 tb.2.1 tb.2.2.1 tb.2.2.2) { frames := d, cells := (al σf).length - (al σ).length, slots := z_sl (al σf) - z_sl (al σ), locals := 200 * d } (z_Pc G φ σ as sz) (z_Qc G φ σ σf r sz) ((al σf).length - (al σ).length) (z_sl (al σf) - z_sl (al σ)) (z_A G φ σ sz)
def z_HC (l : Launch) (G : z_G) (d : Nat) (tb : Nat → MethodName × ByteArray × Nat × Option FieldType) (C : z_O) : Prop :=
  z_mono C ∧ ∀ y as σ σf r φ sz, C y as σ = some (σf, r) → z_Met l G d (tb y) φ σ as σf r sz
theorem RO_to {G : z_G} {A B : Nat → Prop} {L : Nat} {xs : Nat → Int32} {s U : State} {H : Heap} (h : z_RO G A L xs s s.heap) (hvm : s.vm.Alike U.vm) (hz : s.heap.size ≤ H.size) (hk : ∀ q : Nat, q < s.heap.size → ¬ A q → H[q]? = s.heap[q]?) (hAB : ∀ q, B q → A q) : z_RO G B L xs U H := by
  obtain ⟨⟨h1, h2, h3⟩, h4, h5, h6, h7, h8, h9, ⟨cell, h10, h12⟩, h11⟩ := h
  refine ⟨⟨(h1.moved hvm).kept (hk _ h2 h3), Nat.lt_of_lt_of_le h2 hz, fun q => h3 (hAB _ q)⟩, ((h4.moved hvm).kept hk).narrow hAB, ((h5.moved hvm).kept hk).narrow hAB, ((h6.moved hvm).kept hk).narrow hAB, ((h7.moved hvm).kept hk).narrow hAB, fun i hi => (((h8 i hi).moved hvm).kept hk).narrow hAB, ((h9.moved hvm).kept hk).narrow hAB, ⟨cell, ?_, h12⟩, fun q => h11 (hAB _ q)⟩
  rw [hk _ (Array.getElem?_eq_some_iff.mp h10).1 h11]
  exact h10
theorem nw_to {w : Cond} (hw : z_isN w = true) {s U : State} (hW : s.WarmedH U.vm) (h : va_Nw w s) : va_Nw w U := by
  cases w <;> first | (cases hw; done) | exact va_Nw.warmF hW h | exact va_Nw.warmM hW h | exact va_Nw.warmC hW h | skip
  rename_i ty
  cases ty <;> first | (cases hw; done) | exact va_AO.moved hW.alike h
theorem pc_blind {G : z_G} {φ : z_Ad → Nat} {σ : z_St} {as : List z_V} {sz : Nat} : FrameBlind (z_Pc G φ σ as sz) := by
  intro a U g mk h
  obtain ⟨h1, h2, h3, h4, h5, h6, h7, h8, h9, h10⟩ := h
  exact ⟨h1, h2, va_K.moved (u := U) (U := U.calling g mk a) (Vm.Alike.refl U.vm) h3, h4, h5, h6, h7, h8, RO_to (s := U) (U := U.calling g mk a) h9 (Vm.Alike.refl U.vm) (Nat.le_refl _) (fun _ _ _ => rfl) (fun _ h => h), fun w hw hn => nw_to hn (U := U.calling g mk a) (State.WarmedH.refl U) (h10 w hw hn)⟩
theorem take_spec : ∀ (n : Nat) (acc st as st' : List z_V), z_take n acc st = some (as, st') → ∃ pp, st = pp ++ st' ∧ as = pp.reverse ++ acc ∧ pp.length = n
  | 0, acc, st, as, st', h => by
    cases h
    exact ⟨[], rfl, rfl, rfl⟩
  | n + 1, acc, [], as, st', h => by cases h
  | n + 1, acc, v :: st, as, st', h => by
    obtain ⟨pp, h1, h2, h3⟩ := take_spec n (v :: acc) st as st' h
    refine ⟨v :: pp, by rw [h1]; rfl, by rw [h2, List.reverse_cons, List.append_assoc]; rfl, by rw [List.length_cons, h3]⟩
theorem v_pA {n : Nat} {F : List z_V → z_Op} {C : z_O} {ls : z_L} {st : List z_V} {σ : z_St} {k : z_K} {x : z_R} (h : pA n F C ls st σ k = some x) : ∃ as st', st = as.reverse ++ st' ∧ as.length = n ∧ F as C ls st' σ k = some x := by
  unfold pA at h
  match hg : z_take n [] st, h with
  | some (as, st'), h =>
    obtain ⟨pp, h1, h2, h3⟩ := take_spec _ _ _ _ _ hg
    rw [List.append_nil] at h2
    exact ⟨as, st', by rw [h2, List.reverse_reverse]; exact h1, by rw [h2, List.length_reverse, h3], h⟩
  | none, h => cases h
theorem v_clv {y : Nat} {as : List z_V} {C : z_O} {ls : z_L} {st : List z_V} {σ : z_St} {k : z_K} {x : z_R} (h : clv y as C ls st σ k = some x) : ∃ σ1, C y as σ = some (σ1, none) ∧ k ls st σ1 = some x := by
  unfold clv at h
  match hg : C y as σ, h with
  | some (σ1, none), h => exact ⟨σ1, rfl, h⟩
  | some (σ1, some _), h => cases h
  | none, h => cases h
theorem v_clr {y : Nat} {as : List z_V} {C : z_O} {ls : z_L} {st : List z_V} {σ : z_St} {k : z_K} {x : z_R} (h : clr y as C ls st σ k = some x) : ∃ σ1 v, C y as σ = some (σ1, some v) ∧ k ls (v :: st) σ1 = some x := by
  unfold clr at h
  match hg : C y as σ, h with
  | some (σ1, some v), h => exact ⟨σ1, v, rfl, h⟩
  | some (σ1, none), h => cases h
  | none, h => cases h
theorem vs_rest {σ : z_St} {ls : z_L} {a b : List z_V} (h : z_vs σ ls (a ++ b)) : z_vs σ ls b ∧ ∀ v ∈ a, z_vv σ v := ⟨⟨h.1, fun v hv => h.2 v (List.mem_append_right _ hv)⟩, fun v hv => h.2 v (List.mem_append_left _ hv)⟩
section SNC
variable {own : String} {cc : ByteArray} {nL d pc : Nat} {ini : Bool} {G : z_G} {l : Launch} {C : z_O} {tb : Nat → MethodName × ByteArray × Nat × Option FieldType}
variable {p : Program} {e : Env} {R : Room} {s : State} {m : MethodId} {args : Array Value} {below : List Frame} {meth : Method} {c : Code} {Q : State → Prop} {A : Nat → Prop} {φ0 : z_Ad → Nat} {σ0 σf σ1 : z_St} {r : Option z_V} {φ : z_Ad → Nat} {σ : z_St} {H : Heap} {locs : List Loc} {ls : Array Slot} {lsA : z_L}
/-- what a callee finds -/
theorem pre_of (hx : z_cx own cc nL d G p R s m args meth c A σ0 σf) (hr : z_rel G s A φ0 σ0 φ σ H locs) {as : List z_V} (hv : ∀ v ∈ as, z_vv σ v) : ∀ U : State, U.heap = H → s.WarmedH U.vm → z_Pc G φ σ as H.size (as.map (rv φ)).toArray U := by
  intro U hU hW
  obtain ⟨h1, h2, h3, h4, h5, h6, -⟩ := hr
  have hA : ∀ q, z_A G φ σ H.size q → A q := by
    intro q hq
    rcases hq with ⟨k, en, hk⟩ | hq
    · exact h2.2 k (q, en) hk
    · exact hx.2.2.2.2.1 q (Nat.le_trans h3.1 hq)
  refine ⟨rfl, by rw [hU], va_K.moved hW.alike hx.2.2.2.1, by rw [hU]; exact h1, h2.weaken (fun _ _ _ _ => trivial), h4, hv, h5, ?_, fun w hw hn => nw_to hn hW (hx.2.2.1 w hw hn)⟩
  rw [hU]
  exact RO_to h6 hW.alike h3.1 h3.2.1 hA
set_option maxHeartbeats 200000 in
/-- behind a call -/
theorem call_go {st : List z_V} {rr : Option z_V} {a : Array Value} {st0 : List Value} (hC : z_mono C) {y : Nat} {as : List z_V} (hy : C y as σ = some (σ1, rr)) (hx : z_cx own cc nL d G p R s m args meth c A σ0 σf) (hr : z_rel G s A φ0 σ0 φ σ H locs) (hl : z_lr φ lsA ls nL) (hv : z_vs σ lsA st)
    (hrun : va_Run p l e R s m args below meth c H locs ((al σ).length - (al σ0).length) (z_sl (al σ) - z_sl (al σ0)) ((al σ1).length - (al σ).length) (z_sl (al σ1) - z_sl (al σ)) (F0 m pc ls st0) (st.map (rv φ)) (z_Qc G φ σ σ1 rr H.size a) (z_A G φ σ H.size))
    (kk : ∀ (φ' : z_Ad → Nat) (H' : Heap) (locs' : List Loc), z_rel G s A φ0 σ0 φ' σ1 H' locs' → z_lr φ' lsA ls nL → z_vs σ1 lsA (rr.toList ++ st) → z_WW p l e R s m args below meth c Q σ0 σ1 H' locs' (F0 m (pc + 3) ls ((rr.toList ++ st).map (rv φ')))) :
    z_WW p l e R s m args below meth c Q σ0 σ H locs (F0 m pc ls st0) := by
  intro T hT X
  obtain ⟨v, st₀, t, T', L, h0, X', hL, e1, e2, ⟨φ', hv', hag, hP, hD, hok, hvr, h14, hF⟩, go⟩ := hrun T hT X
  obtain ⟨hrP, hrD, hrS, hrok, hrφ, hrRO, hrpre, hr7, hr8, hr9⟩ := hr
  have hpre := hC _ _ _ _ _ hy
  have hA : ∀ q, z_A G φ σ H.size q → A q := by
    intro q hq
    rcases hq with ⟨k, en, hk⟩ | hq
    · exact hrD.2 k (q, en) hk
    · exact hx.2.2.2.2.1 q (Nat.le_trans hrS.1 hq)
  obtain ⟨hz, hk⟩ := hF
  rw [h0] at hz hk
  have hS' : va_S A s.heap T'.heap (locs ++ L) := by
    refine ⟨Nat.le_trans hrS.1 (by rw [e1]; exact hz), fun q g1 g2 => ?_, fun q hq => ?_⟩
    · rw [e1, hk q (Nat.lt_of_lt_of_le g1 hrS.1) (fun z => g2 (hA q z))]
      exact hrS.2.1 q g1 g2
    · rcases List.mem_append.mp hq with hq | hq
      · exact hrS.2.2 q hq
      · exact hA _ (hL q hq)
  have hrel : z_rel G s A φ0 σ0 φ' σ1 T'.heap (locs ++ L) := by
    refine ⟨by rw [e1]; exact hP, hD.weaken (fun _ _ _ h => hA _ h), hS', hok, fun q g1 g2 => ?_, ?_, hrpre.trans hpre, fun q hq => ?_, by rw [h14.1]; exact hr8, by rw [h14.2]; exact hr9⟩
    · rw [hag q (Or.inr ⟨g1, g2⟩)]
      exact hrφ q g1 g2
    · rw [h14.1, h14.2]
      exact hrRO
    · rw [hag q (val_mono hrpre hq)]
      exact hr7 q hq
  have hvs : z_vs σ1 lsA (rr.toList ++ st) := by
    have h1 := vs_mono hpre hv
    cases rr with
    | none => exact h1
    | some w => exact vs_psh h1 (hvr w rfl)
  have kk := kk φ' T'.heap (locs ++ L) hrel (lr_phi hag hv.1 hl) hvs
  have c1 := sl_pre hrpre
  have c2 := sl_pre hpre
  unfold z_WW at kk
  rw [show (al σ1).length - (al σ0).length = (al σ).length - (al σ0).length + ((al σ1).length - (al σ).length) by omega, show z_sl (al σ1) - z_sl (al σ0) = z_sl (al σ) - z_sl (al σ0) + (z_sl (al σ1) - z_sl (al σ)) by omega] at kk
  obtain ⟨t2, a1, b1⟩ := kk T' rfl X'
  refine ⟨t2, go t2 ?_, b1⟩
  have ev : v = rr.map (rv φ') := Outcome.returned.inj hv'
  rw [ev]
  have es : (rr.map (rv φ')).toList ++ st.map (rv φ) = (rr.toList ++ st).map (rv φ') := by
    rw [List.map_append, st_phi hag hv.2]
    cases rr <;> rfl
  rw [es]
  exact a1
end SNC
