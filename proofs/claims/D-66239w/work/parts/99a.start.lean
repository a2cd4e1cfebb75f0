/-! PART 27 (printed by wip/gen/gen27.py): the start: what the tables and the Statement's premises give -/
set_option maxRecDepth 100000
theorem arrP {args : Array Value} {s : State} {ty : FieldType} (h : (Cond.arrayClass ty).before args s = true) (hty : ∀ E, ty ≠ .object E) : ∃ cA, ArrOfT s cA ty ∧ va_RA s cA ty := by
  obtain ⟨c, k, comp, h1, h2, h3⟩ := Cond.arrayClass_spec h
  refine ⟨c, fun n z => ⟨fun k h => (by cases h), k, h2, comp, h3⟩, ?_⟩
  cases ty with
  | object E => exact absurd rfl (hty E)
  | _ => exact h1
theorem arrO {args : Array Value} {s : State} {E : String} (h : (Cond.arrayOver (.object E)).before args s = true) : ∃ cA, ArrOfT s cA (.object E) ∧ va_RA s cA (.object E) := by
  obtain ⟨comp, c, k, h1, h2, h3, h4, h5⟩ := Cond.arrayOver_spec h
  exact ⟨c, fun n z => ⟨fun k h => (by cases h), k, h3, comp, h4⟩, k, comp, h3, h4, h1, h5⟩
theorem start_K {args : Array Value} {s : State} (hts : ∀ w ∈ lw_tbl, w.before args s = true) : ∃ (dC : Nat → ClassId) (dI : Nat → Nat → Nat) (dA : Nat → ClassId), ∀ fR : z_Ad → Nat, va_K (dC, dI) z_CL (z_tys (dC, dI, dA, fR)) s := by
  obtain ⟨c0, i0, h0⟩ := u_known (C := "QuotaPeers") (T := zT0) (N := 22) (n := 22) hts (fun w h => lw_all_tbl (zI0 w h)) (hts _ (lw_all_tbl w150))
  obtain ⟨c1, i1, h1⟩ := u_known (C := "QuotaPeers$Text") (T := zT1) (N := 2) (n := 2) hts (fun w h => lw_all_tbl (zI1 w h)) (hts _ (lw_all_tbl w158))
  obtain ⟨c2, i2, h2⟩ := u_known (C := "QuotaPeers$Page") (T := zT2) (N := 2) (n := 2) hts (fun w h => lw_all_tbl (zI2 w h)) (hts _ (lw_all_tbl w175))
  obtain ⟨c3, i3, h3⟩ := u_known (C := "QuotaPeers$Message") (T := zT3) (N := 15) (n := 15) hts (fun w h => lw_all_tbl (zI3 w h)) (hts _ (lw_all_tbl w190))
  obtain ⟨c4, i4, h4⟩ := u_known (C := "QuotaPeers$Link") (T := zT4) (N := 9) (n := 9) hts (fun w h => lw_all_tbl (zI4 w h)) (hts _ (lw_all_tbl w292))
  obtain ⟨c5, i5, h5⟩ := u_known (C := "QuotaPeers$Session") (T := zT5) (N := 8) (n := 8) hts (fun w h => lw_all_tbl (zI5 w h)) (hts _ (lw_all_tbl w332))
  obtain ⟨c6, i6, h6⟩ := u_known (C := "QuotaPeers$Question") (T := zT6) (N := 8) (n := 8) hts (fun w h => lw_all_tbl (zI6 w h)) (hts _ (lw_all_tbl w369))
  obtain ⟨c7, i7, h7⟩ := u_known (C := "QuotaPeers$Answer") (T := zT7) (N := 5) (n := 5) hts (fun w h => lw_all_tbl (zI7 w h)) (hts _ (lw_all_tbl w404))
  obtain ⟨c8, i8, h8⟩ := u_known (C := "QuotaPeersModel") (T := zT8) (N := 92) (n := 92) hts (fun w h => lw_all_tbl (zI8 w h)) (hts _ (lw_all_tbl w1146))
  obtain ⟨c9, i9, h9⟩ := u_known (C := "QuotaPeers$Peer") (T := zT9) (N := 18) (n := 18) hts (fun w h => lw_all_tbl (zI9 w h)) (hts _ (lw_all_tbl w524))
  obtain ⟨c10, i10, h10⟩ := u_known (C := "QuotaPeers$Account") (T := zT10) (N := 4) (n := 4) hts (fun w h => lw_all_tbl (zI10 w h)) (hts _ (lw_all_tbl w1093))
  obtain ⟨a0, g0⟩ := arrP (hts _ (lw_all_tbl w267)) (fun E h => by cases h)
  obtain ⟨a1, g1⟩ := arrP (hts _ (lw_all_tbl w173)) (fun E h => by cases h)
  obtain ⟨a2, g2⟩ := arrP (hts _ (lw_all_tbl w1428)) (fun E h => by cases h)
  obtain ⟨a3, g3⟩ := arrP (hts _ (lw_all_tbl w1429)) (fun E h => by cases h)
  obtain ⟨a4, g4⟩ := arrO (hts _ w269)
  obtain ⟨a5, g5⟩ := arrO (hts _ w271)
  obtain ⟨a6, g6⟩ := arrO (hts _ w273)
  obtain ⟨a7, g7⟩ := arrO (hts _ w275)
  obtain ⟨a8, g8⟩ := arrO (hts _ w277)
  obtain ⟨a9, g9⟩ := arrO (hts _ w279)
  obtain ⟨a10, g10⟩ := arrO (hts _ w206)
  refine ⟨fun k => ([c0, c1, c2, c3, c4, c5, c6, c7, c8, c9, c10] : List ClassId).getD k 0, fun k => ([i0, i1, i2, i3, i4, i5, i6, i7, i8, i9, i10] : List (Nat → Nat)).getD k (fun _ => 0), fun k => ([a0, a1, a2, a3, a4, a5, a6, a7, a8, a9, a10] : List ClassId).getD (k - 16) 0, fun fR => ⟨?_, ?_⟩⟩
  · intro k q hq
    match k, hq with
    | 0, hq => cases hq; exact h0
    | 1, hq => cases hq; exact h1
    | 2, hq => cases hq; exact h2
    | 3, hq => cases hq; exact h3
    | 4, hq => cases hq; exact h4
    | 5, hq => cases hq; exact h5
    | 6, hq => cases hq; exact h6
    | 7, hq => cases hq; exact h7
    | 8, hq => cases hq; exact h8
    | 9, hq => cases hq; exact h9
    | 10, hq => cases hq; exact h10
    | k + 11, hq => simp [z_CL] at hq
  · intro k q hq
    match k, hq with
    | 0, hq => cases hq; exact g0
    | 1, hq => cases hq; exact g1
    | 2, hq => cases hq; exact g2
    | 3, hq => cases hq; exact g3
    | 4, hq => cases hq; exact g4
    | 5, hq => cases hq; exact g5
    | 6, hq => cases hq; exact g6
    | 7, hq => cases hq; exact g7
    | 8, hq => cases hq; exact g8
    | 9, hq => cases hq; exact g9
    | 10, hq => cases hq; exact g10
    | k + 11, hq => simp [z_tys] at hq
theorem of_eval {args : Array Value} {s : State} {t : Term} {o n d : String} {a : Nat} {v : Value} {A : Nat → Prop} (hev : t.eval args s none [] s = some (.ref a)) (hf : (Term.field t o n d).eval args s none [] s = some v) (hA : ∀ a : Nat, a < s.heap.size → ¬ A a) : va_OF o n d v a A s s.heap := by
  cases hfo : s.fieldFound? o n d with
  | none =>
    rw [va_fe hev] at hf
    simp [State.fieldOf?, State.fieldNamed?, hfo] at hf
  | some x =>
    obtain ⟨cf, k, fi, f⟩ := x
    obtain ⟨g1, cell, g2, g3, -, -, g6⟩ := Term.field_spec hfo hev hf
    exact ⟨cf, k, fi, f, cell, hfo, g1, g2, g3, g6, hA _ (Array.getElem?_eq_some_iff.mp g2).1⟩
def z_cnm : List String := ["OPENS", "WATCHES", "ENDS", "CREDITS", "ANSWERS"]
abbrev z_cT (i : Nat) : Term := .static "QuotaPeers$Command" (z_cnm.getD i "") "LQuotaPeers$Command;"
abbrev z_vT : Term := .static "QuotaPeers$Command" "$VALUES" "[LQuotaPeers$Command;"
def z_leaves : List Cond := flatC (Jvm.Cond.and given_1 narrow_1)
theorem lf_ex : (List.range 5).all (fun i => decide (Cond.exactly (z_cT i) "QuotaPeers$Command" ∈ z_leaves)) = true := by decide +kernel
theorem lf_code : (List.range 5).all (fun i => decide (Cond.eq (.field (z_cT i) "QuotaPeers$Command" "code" "I") (.int (z_codes.getD i 0)) ∈ z_leaves)) = true := by decide +kernel
theorem lf_app : (List.range 5).all (fun i => decide (Cond.eq (.field (z_cT i) "QuotaPeers$Command" "application" "I") (.int (z_apps.getD i 0)) ∈ z_leaves)) = true := by decide +kernel
theorem lf_arr : (List.range 5).all (fun i => decide (Cond.arrayOf (.field (z_cT i) "QuotaPeers$Command" "wants" "[I") .int ∈ z_leaves)) = true := by decide +kernel
theorem lf_len : (List.range 5).all (fun i => decide (Cond.eq (.length (.field (z_cT i) "QuotaPeers$Command" "wants" "[I")) (.int 5) ∈ z_leaves)) = true := by decide +kernel
theorem lf_el : (List.range 5).all (fun i => (List.range 5).all fun j => decide (Cond.eq (.elem (.field (z_cT i) "QuotaPeers$Command" "wants" "[I") (.int (Int32.ofNat j))) (.int ((z_wants.getD i []).getD j 0)) ∈ z_leaves)) = true := by decide +kernel
theorem lf_v1 : Cond.arrayOf z_vT (.object "QuotaPeers$Command") ∈ z_leaves := by decide +kernel
theorem lf_v2 : Cond.eq (.length z_vT) (.int 5) ∈ z_leaves := by decide +kernel
theorem lf_v3 : Cond.exactly z_vT "[LQuotaPeers$Command;" ∈ z_leaves := by decide +kernel
theorem lf_v4 : Cond.all z_vT (.le (.index 0) (.int 4)) ∈ z_leaves := by decide +kernel
theorem lf_vel : (List.range 5).all (fun i => decide (Cond.eq (.elem z_vT (.int (Int32.ofNat i))) (z_cT i) ∈ z_leaves)) = true := by decide +kernel
theorem lf_lay : (List.range 5).all (fun i => decide (Cond.laysStatic "QuotaPeers$Command" (z_cnm.getD i "") "LQuotaPeers$Command;" ∈ lw_tbl)) = true := by decide +kernel
theorem all5 {P : Nat → Prop} [DecidablePred P] (h : (List.range 5).all (fun i => decide (P i)) = true) {i : Nat} (hi : i < 5) : P i := of_decide_eq_true (List.all_eq_true.mp h i (List.mem_range.mpr hi))

theorem all_25 {P : Nat → Nat → Prop} [∀ i j, Decidable (P i j)] (h : (List.range 5).all (fun i => (List.range 5).all fun j => decide (P i j)) = true) {i j : Nat} (hi : i < 5) (hj : j < 5) : P i j := of_decide_eq_true (List.all_eq_true.mp (List.all_eq_true.mp h i (List.mem_range.mpr hi)) j (List.mem_range.mpr hj))
set_option maxHeartbeats 400000 in
theorem start_RO {args : Array Value} {s : State} {b L : Nat} {xs : Nat → Int32} (hts : ∀ w ∈ lw_tbl, w.before args s = true) (hgv : (Jvm.Cond.and given_1 narrow_1).before args s = true) (hX : va_X b L xs s s.heap) (hb : b < s.heap.size) {dC : Nat → ClassId} {dI : Nat → Nat → Nat} {dA : Nat → ClassId} (hK : ∀ fR : z_Ad → Nat, va_K (dC, dI) z_CL (z_tys (dC, dI, dA, fR)) s) :
    ∃ fR : z_Ad → Nat, fR (14, 0) = b ∧ z_RO (dC, dI, dA, fR) (fun q => s.heap.size ≤ q) L xs s s.heap := by
  have hs : ∀ c ∈ z_leaves, c.before args s = true := flat_of_before _ hgv
  have hA : ∀ a : Nat, a < s.heap.size → ¬ s.heap.size ≤ a := fun a h q => by omega
  have hini : (Cond.initialized "QuotaPeers$Command").before args s = true := hts _ (lw_all_tbl w139)
  have hc : ∀ i, ∃ a, i < 5 → (z_cT i).eval args s none [] s = some (.ref a) := by
    intro i
    by_cases hi : i < 5
    · obtain ⟨a, _, _, _, h, -⟩ := Cond.exactly_spec (hs _ (all5 lf_ex hi))
      exact ⟨a, fun _ => h⟩
    · exact ⟨0, fun h => absurd h hi⟩
  have hw : ∀ i, ∃ a, i < 5 → (Term.field (z_cT i) "QuotaPeers$Command" "wants" "[I").eval args s none [] s = some (.ref a) ∧ va_T .int a 5 (fun j => .int ((z_wants.getD i []).getD j 0)) (fun q => s.heap.size ≤ q) s s.heap := by
    intro i
    by_cases hi : i < 5
    · obtain ⟨t, h1, h2⟩ := va_Tof (N := 5) (f := fun j => .int ((z_wants.getD i []).getD j 0)) (A := fun q => s.heap.size ≤ q) (by decide) (hs _ (all5 lf_arr hi)) (va_eqt (hs _ (all5 lf_len hi))) (fun j hj => va_eqt (hs _ (all_25 lf_el hi hj))) hA
      exact ⟨t, fun _ => ⟨h1, h2⟩⟩
    · exact ⟨0, fun h => absurd h hi⟩
  obtain ⟨tv, cell, ht, hat, hlv⟩ := Term.length_spec (va_eqt (hs _ lf_v2))
  obtain ⟨hcell, hkn, -, -⟩ := State.arrayAt?_spec hat
  obtain ⟨hof, -⟩ := Cond.arrayOf_spec (hs _ lf_v1) ht hcell
  obtain ⟨a2, c2, cell2, k2, e1, e2, e3, e4, e5, e6, -⟩ := Cond.exactly_spec (hs _ lf_v3)
  cases ht.symm.trans e1
  cases hcell.symm.trans e3
  have hnm : s.vm.findClass "[LQuotaPeers$Command;" = some (dA 26) := by
    obtain ⟨_, _, _, _, _, g⟩ := ((hK (fun _ => 0)).2 10 (dA 26, .object "QuotaPeers$Command") rfl).2
    exact g
  have hcls : cell.cls = dA 26 := by
    rw [e6]
    exact Option.some.inj (e2.symm.trans hnm)
  have hle : cell.slots.size ≤ 5 := by
    rcases Nat.lt_or_ge 5 cell.slots.size with h | h
    · have hall := Cond.all_elim ht hat (show (Cond.all z_vT (.le (.index 0) (.int 4))).value args s none s [] = some true by simpa [Cond.before, Cond.holds] using hs _ lf_v4) 5 h
      simp [Cond.value, Term.eval] at hall
      exact absurd hall (by decide)
    · exact h
  let ad : Nat → Nat := fun i => Classical.choose (hc i)
  have had : ∀ i, i < 5 → (z_cT i).eval args s none [] s = some (.ref (ad i)) := fun i hi => Classical.choose_spec (hc i) hi
  let wa : Nat → Nat := fun i => Classical.choose (hw i)
  have hwa : ∀ i, i < 5 → (Term.field (z_cT i) "QuotaPeers$Command" "wants" "[I").eval args s none [] s = some (.ref (wa i)) ∧ va_T .int (wa i) 5 (fun j => .int ((z_wants.getD i []).getD j 0)) (fun q => s.heap.size ≤ q) s s.heap := fun i hi => Classical.choose_spec (hw i) hi
  have hel : ∀ j, j < 5 → cell.slots[j]? = some (.ref (ad j)) := by
    intro j hj
    have hev := va_eqv (hs _ (all5 lf_vel hj)) (had j hj)
    obtain ⟨a, i, cell3, h1, h2, h3, h4, h5⟩ := Term.elem_spec hev
    cases ht.symm.trans h1
    cases hat.symm.trans h3
    have hi : i = Int32.ofNat j := by
      have e : (Term.int (Int32.ofNat j)).eval args s none [] s = some (.int (Int32.ofNat j)) := rfl
      cases h2.symm.trans e
      rfl
    have hcl : i.toNatClampNeg = j := by rw [hi]; exact Int32.toNatClampNeg_ofNat_of_lt (by omega)
    rw [hcl] at h5
    exact h5
  have hsz : cell.slots.size = 5 := by
    have h1 := (Array.getElem?_eq_some_iff.mp (hel 4 (by decide))).1
    omega
  refine ⟨fun q => if q.1 = 12 then ad q.2 else if q.1 = 13 then wa q.2 else if q.1 = 14 then b else tv, rfl, ⟨hX, hb, hA b hb⟩, va_Zof (hts _ (of_decide_eq_true (List.all_eq_true.mp lf_lay 4 (List.mem_range.mpr (by decide))))) hini (had 4 (by decide)) hA, fun i hi => of_eval (had i hi) (va_eqt (hs _ (all5 lf_code hi))) hA, fun i hi => of_eval (had i hi) (va_eqt (hs _ (all5 lf_app hi))) hA, fun i hi => of_eval (had i hi) (hwa i hi).1 hA, fun i hi => (hwa i hi).2, va_Zof (hts _ w199) hini ht hA, ⟨cell, hcell, hcls, ?_, hof.1, hkn⟩, hA tv (Array.getElem?_eq_some_iff.mp hcell).1⟩
  apply Array.ext_getElem?
  intro j
  rcases Nat.lt_or_ge j 5 with hj | hj
  · rw [hel j hj, arrV_read _ _ hj, if_pos hj]
    rfl
  · rw [Array.getElem?_eq_none (by omega), Array.getElem?_eq_none (by rw [arrV_size]; exact hj)]
