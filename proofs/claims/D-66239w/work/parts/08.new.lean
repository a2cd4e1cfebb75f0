/-! PART 08: what is made -/
/-- a new cell q: what belongs to others is as it was -/
def z_new (σ σ' : z_St) (q : z_Ad) : Prop := al σ' = al σ ++ [q] ∧ cn σ' = va_up (cn σ) q.1 (cn σ q.1 + 1) ∧ q.2 = cn σ q.1 + z_off q.1 ∧ z_kind q.1 ∧ (∀ a b n, z_own a b n ≠ q → gI σ' a b n = gI σ a b n ∧ gJ σ' a b n = gJ σ a b n ∧ gR σ' a b n = gR σ a b n) ∧
  ∀ a b n, z_own a b n = q → (∀ w, gR σ' a b n = some w → z_val σ' w) ∧ (aTy a = 17 → fits .byte (.int (gI σ' a b n)) = true)
theorem new_not {σ σ' : z_St} {q : z_Ad} (hok : z_ok σ) (h : z_new σ σ' q) : q ∉ al σ := fun hq => by
  have h1 := (hok.2.1 q hq).1
  have h2 := h.2.2.1
  omega
theorem new_ne {σ σ' : z_St} {q w : z_Ad} (hok : z_ok σ) (h : z_new σ σ' q) (hw : z_val σ w) : w ≠ q := by
  rintro rfl
  rcases hw with hw | hw
  · exact new_not hok h hw
  · have hk := h.2.2.2.1
    rcases hk with hk | hk
    · omega
    · have h1 := hk.1
      simp only [aTy] at h1
      omega
theorem new_ok {σ σ' : z_St} {q : z_Ad} (hok : z_ok σ) (h : z_new σ σ' q) : z_ok σ' := by
  have hn := new_not hok h
  obtain ⟨h1, h2, h3, h4, h5, h6⟩ := h
  have hpre : al σ <+: al σ' := by rw [h1]; exact List.prefix_append _ _
  refine ⟨?_, fun w hw => ?_, fun a b n w hal hw => ?_, fun a b n ht => ?_⟩
  · rw [h1]
    exact List.nodup_append.mpr ⟨hok.1, (by simp), fun x hx y hy => by
      rw [List.mem_singleton.mp hy]
      intro e
      exact hn (by rw [← e]; exact hx)⟩
  · rw [h1] at hw
    rw [h2]
    rcases List.mem_append.mp hw with hw | hw
    · obtain ⟨g1, g2⟩ := hok.2.1 w hw
      refine ⟨?_, g2⟩
      unfold va_up
      split
      · rename_i e
        rw [e] at g1 ⊢
        omega
      · exact g1
    · rw [List.mem_singleton.mp hw]
      refine ⟨?_, h4⟩
      unfold va_up
      rw [if_pos rfl]
      omega
  · by_cases ho : z_own a b n = q
    · exact (h6 a b n ho).1 w hw
    · rw [(h5 a b n ho).2.2] at hw
      rw [h1] at hal
      rcases List.mem_append.mp hal with hal | hal
      · exact val_mono hpre (hok.2.2.1 a b n w hal hw)
      · exact absurd (List.mem_singleton.mp hal) ho
  · by_cases ho : z_own a b n = q
    · exact (h6 a b n ho).2 ht
    · rw [(h5 a b n ho).1]
      exact hok.2.2.2 a b n ht
theorem map_phi {σ : z_St} {φ φ' : z_Ad → Nat} (ha : ∀ w, z_val σ w → φ' w = φ w) {r : Option z_Ad} (hr : ∀ w, r = some w → z_val σ w) : r.map φ' = r.map φ := by
  cases r with
  | none => rfl
  | some w =>
    show some (φ' w) = some (φ w)
    rw [ha w (hr w rfl)]
theorem rv_phi {σ : z_St} {φ φ' : z_Ad → Nat} (ha : ∀ w, z_val σ w → φ' w = φ w) {v : z_V} (hv : z_vv σ v) : rv φ' v = rv φ v := by
  rcases v with x | x | r
  · rfl
  · rfl
  · show va_rf (r.map φ') = va_rf (r.map φ)
    rw [map_phi ha (fun w e => hv w (by rw [e]))]
theorem st_phi {σ : z_St} {φ φ' : z_Ad → Nat} (ha : ∀ w, z_val σ w → φ' w = φ w) {st : List z_V} (hv : ∀ v ∈ st, z_vv σ v) : st.map (rv φ') = st.map (rv φ) :=
  List.map_congr_left fun v hm => rv_phi ha (hv v hm)
theorem lr_phi {σ : z_St} {φ φ' : z_Ad → Nat} (ha : ∀ w, z_val σ w → φ' w = φ w) {lsA : z_L} {ls : Array Slot} {nL : Nat} (hv : ∀ i v, z_get lsA i = some v → z_vv σ v) (h : z_lr φ lsA ls nL) : z_lr φ' lsA ls nL :=
  ⟨h.1, fun i v hi => by rw [rv_phi ha (hv i v hi)]; exact h.2 i v hi⟩
theorem cell_phi {G : z_G} {σ σ' : z_St} {φ φ' : z_Ad → Nat} {q : z_Ad} (ha : ∀ w, z_val σ w → φ' w = φ w) (hr : ∀ a b n w, z_own a b n = q → gR σ a b n = some w → z_val σ w) (h : ∀ a b n, z_own a b n = q → gI σ' a b n = gI σ a b n ∧ gJ σ' a b n = gJ σ a b n ∧ gR σ' a b n = gR σ a b n) : z_cell G φ' σ' q = z_cell G φ σ q := by
  unfold z_cell
  by_cases h16 : q.1 < 16
  · rw [if_pos h16, if_pos h16]
    have ee : z_fs φ' σ' q.1 q.2 = z_fs φ σ q.1 q.2 := by
      unfold z_fs
      apply List.map_congr_left
      intro b _
      obtain ⟨e1, e2, e3⟩ := h q.1 b q.2 (by unfold z_own; rw [if_pos h16])
      unfold z_fv
      rw [e1, e2, e3, map_phi ha (fun w hw => hr _ _ _ w (by unfold z_own; rw [if_pos h16]) hw)]
    rw [ee]
  · rw [if_neg h16, if_neg h16]
    have ee : z_arr φ' σ' q = z_arr φ σ q := by
      have k : ∀ n, z_own q.1 q.2 n = q := fun n => by unfold z_own; rw [if_neg h16]
      have e1 : gI σ' q.1 q.2 = gI σ q.1 q.2 := funext fun n => (h _ _ n (k n)).1
      have e2 : gJ σ' q.1 q.2 = gJ σ q.1 q.2 := funext fun n => (h _ _ n (k n)).2.1
      have e3 : (fun i => (gR σ' q.1 q.2 i).map φ') = fun i => (gR σ q.1 q.2 i).map φ := funext fun n => by rw [(h _ _ n (k n)).2.2, map_phi ha (fun w hw => hr _ _ _ w (k n) hw)]
      unfold z_arr
      rw [e1, e2, e3]
    rw [ee]
def z_phi (φ : z_Ad → Nat) (q : z_Ad) (a : Nat) : z_Ad → Nat := fun x => if x = q then a else φ x
theorem rel_new {G : z_G} {s : State} {A : Nat → Prop} {φ0 : z_Ad → Nat} {σ0 σ σ' : z_St} {φ : z_Ad → Nat} {H H1 : Heap} {locs locs1 : List Loc} {q : z_Ad} {ad : Nat} (hr : z_rel G s A φ0 σ0 φ σ H locs) (hn : z_new σ σ' q)
    (hP : va_P (z_D2 G) z_CL (z_ws G φ σ ++ [(ad, z_cell G (z_phi φ q ad) σ' q)]) H1) (hD : va_D A (z_ws G φ σ ++ [(ad, z_cell G (z_phi φ q ad) σ' q)])) (hS : va_S A s.heap H1 locs1) :
    z_rel G s A φ0 σ0 (z_phi φ q ad) σ' H1 locs1 ∧ ∀ w, z_val σ w → z_phi φ q ad w = φ w := by
  obtain ⟨-, -, -, k1, k2, k3, k4, k5, k6, k7⟩ := hr
  have ha : ∀ w, z_val σ w → z_phi φ q ad w = φ w := fun w hw => if_neg (new_ne k1 hn hw)
  have ew : z_ws G φ σ ++ [(ad, z_cell G (z_phi φ q ad) σ' q)] = z_ws G (z_phi φ q ad) σ' := by
    unfold z_ws
    rw [hn.1, List.map_append]
    congr 1
    · apply List.map_congr_left
      intro w hw
      rw [ha w (Or.inl hw), cell_phi (φ := φ) (σ := σ) ha (fun a b n x ho hx => k1.2.2.1 a b n x (by rw [ho]; exact hw) hx)]
      intro a b n ho
      refine hn.2.2.2.2.1 a b n ?_
      rw [ho]
      exact new_ne k1 hn (Or.inl hw)
    · show [(ad, _)] = [(z_phi φ q ad q, _)]
      rw [show z_phi φ q ad q = ad from if_pos rfl]
  rw [ew] at hP hD
  have k14 : q.1 ≠ 14 := kind14 hn.2.2.2.1
  have e14 : gI σ' 14 0 = gI σ 14 0 := funext fun n => (hn.2.2.2.2.1 14 0 n (by
    unfold z_own
    rw [if_pos (by decide)]
    intro e
    exact k14 (by rw [← e]))).1
  have c14 : cn σ' 14 = cn σ 14 := by
    rw [hn.2.1]
    exact if_neg (fun e => k14 e.symm)
  refine ⟨⟨hP, hD, hS, new_ok k1 hn, fun w h1 h2 => ?_, ?_, ?_⟩, ha⟩
  · rw [ha w (Or.inr ⟨h1, h2⟩)]
    exact k2 w h1 h2
  · rw [e14, c14]
    exact k3
  · rw [hn.1]
    refine ⟨k4.trans (List.prefix_append _ _), fun w hw => ?_, by rw [c14]; exact k6, by rw [e14]; exact k7⟩
    rw [ha w (val_mono k4 hw)]
    exact k5 w hw
def z_dv (t : Nat) : Value := match t with
  | 0 => .int 0
  | 1 => .long 0
  | _ => .null
theorem new_nO (σ : z_St) {a : Nat} (ha : a < 11) : z_new σ (nO σ a (cn σ a + z_off a)) (a, cn σ a + z_off a) := by
  refine ⟨rfl, rfl, rfl, Or.inl ha, fun x b n ho => ?_, fun x b n ho => ?_⟩
  · have key : ∀ {α : Type} (f : Nat → Nat → Nat → α) (v : α), z_col f a (cn σ a + z_off a) v x b n = f x b n := by
      intro α f v
      unfold z_col
      split
      · rename_i e
        subst e
        unfold va_up
        rw [if_neg]
        intro en
        apply ho
        unfold z_own
        rw [if_pos (by omega), en]
      · rfl
    exact ⟨key _ _, key _ _, key _ _⟩
  · have hx : x = a ∧ n = cn σ a + z_off a := by
      unfold z_own at ho
      split at ho
      · exact ⟨congrArg Prod.fst ho, congrArg Prod.snd ho⟩
      · have := congrArg Prod.fst ho
        have h2 : x = a := this
        omega
    obtain ⟨rfl, rfl⟩ := hx
    have key : ∀ {α : Type} (f : Nat → Nat → Nat → α) (v : α), z_col f x (cn σ x + z_off x) v x b (cn σ x + z_off x) = v := by
      intro α f v
      unfold z_col
      rw [if_pos rfl]
      exact if_pos rfl
    constructor
    · intro w hw
      have hw : z_col (gR σ) x (cn σ x + z_off x) none x b (cn σ x + z_off x) = some w := hw
      rw [key] at hw
      cases hw
    · intro ht
      simp only [aTy] at ht
      omega
theorem new_nA (σ : z_St) {a : Nat} (ha : 16 ≤ aTy a ∧ aTy a ≤ 26) : z_new σ (nA σ a (cn σ a + z_off a)) (a, cn σ a + z_off a) := by
  have h16 := ty_16 (a := a) rfl ha.1
  refine ⟨rfl, rfl, rfl, Or.inr ha, fun x b n ho => ?_, fun x b n ho => ?_⟩
  · have key : ∀ {α : Type} (f : Nat → Nat → Nat → α) (r : Nat → α), z_row f a (cn σ a + z_off a) r x b n = f x b n := by
      intro α f r
      unfold z_row
      rw [if_neg]
      intro e
      apply ho
      unfold z_own
      rw [if_neg (by omega), e.1, e.2]
    exact ⟨key _ _, key _ _, key _ _⟩
  · have hx : x = a ∧ b = cn σ a + z_off a := by
      unfold z_own at ho
      split at ho
      · have := congrArg Prod.fst ho
        have h2 : x = a := this
        omega
      · exact ⟨congrArg Prod.fst ho, congrArg Prod.snd ho⟩
    obtain ⟨rfl, rfl⟩ := hx
    have key : ∀ {α : Type} (f : Nat → Nat → Nat → α) (r : Nat → α), z_row f x (cn σ x + z_off x) r x (cn σ x + z_off x) n = r n := by
      intro α f r
      unfold z_row
      rw [if_pos ⟨rfl, rfl⟩]
    constructor
    · intro w hw
      have hw : z_row (gR σ) x (cn σ x + z_off x) (fun _ => none) x (cn σ x + z_off x) n = some w := hw
      rw [key] at hw
      cases hw
    · intro _
      have ee : gI (nA σ x (cn σ x + z_off x)) x (cn σ x + z_off x) n = 0 := key (gI σ) (fun _ => 0)
      rw [ee]
      rfl
section SNN
variable {own : String} {cc : ByteArray} {nL d pc : Nat} {ini : Bool} {G : z_G} {l : Launch} {C : z_O}
/-- the counts behind a new cell -/
theorem cnt_new {σ0 σ σ' : z_St} {q : z_Ad} (h0 : al σ0 <+: al σ) (h : al σ' = al σ ++ [q]) : (al σ).length - (al σ0).length + 1 = (al σ').length - (al σ0).length ∧ z_sl (al σ) - z_sl (al σ0) + (if q.1 < 16 then oN q.1 else aLen q.1) = z_sl (al σ') - z_sl (al σ0) := by
  have hc := sl_pre h0
  rw [h, sl_app, List.length_append]
  have e1 : z_sl [q] = (if q.1 < 16 then oN q.1 else aLen q.1) := Nat.add_zero _
  have e2 : [q].length = 1 := rfl
  omega
theorem RA_inj {s : State} {c1 c2 : ClassId} {ty : FieldType} (h1 : va_RA s c1 ty) (h2 : va_RA s c2 ty) : c1 = c2 := by
  cases ty with
  | object E =>
    obtain ⟨_, _, _, _, _, e1⟩ := h1
    obtain ⟨_, _, _, _, _, e2⟩ := h2
    exact Option.some.inj (e1.symm.trans e2)
  | _ => exact Option.some.inj ((show s.vm.findClass _ = some c1 from h1).symm.trans (show s.vm.findClass _ = some c2 from h2))
set_option maxHeartbeats 200000 in
theorem so_new (a : Nat) {N idx : Nat} {Cn : String} {T : u_T} {F : Nat → FieldType} (hc : z_CL[a]? = some (Cn, T, N)) (hin : ∀ w ∈ u_ws Cn T N, w ∈ lw_all) (hF : ∀ k, k < N → parseFieldDescriptor (T k).2.2.1 = some (F k)) (hN : oN a = N) (ha : a < 11) (h1 : Cond.classLink own idx Cn ∈ lw_all) (h2 : Cond.instantiable Cn N ∈ lw_all) (h3 : Cond.initialized Cn ∈ lw_all) (hdv : ∀ j, j < N → defaultValue (F j) = z_dv (fTy a j)) (hd : decode cc pc = .ok (.new idx, 3)) : z_SO own cc nL ini d G l C pc 3 (zo_new a) := by
  intro p e R s m args below meth c Q A φ0 σ0 σf r hx hi φ σ H locs ls lsA st hr hl hv k hk ho kk
  have ho : k lsA (.inr (.inr (some (a, cn σ a + z_off a))) :: st) (nO σ a (cn σ a + z_off a)) = some (σf, r) := ho
  have hn := new_nO σ ha
  have hpre := sl_pre (hk _ _ _ ho)
  have hcnt := cnt_new hr.2.2.2.2.2.2.1 hn.1
  have hcnt2 : z_sl (al σ) - z_sl (al σ0) + N = z_sl (al (nO σ a (cn σ a + z_off a))) - z_sl (al σ0) := by
    have e2 := hcnt.2
    rw [if_pos (show a < 16 by omega), show oN (a, cn σ a + z_off a).1 = N from hN] at e2
    exact e2
  refine va_new (ci := a) (fs := (List.range N).map fun b => z_dv (fTy a b)) hx.1.1 hx.1.2.1 hx.2.1 hin F hF hx.1.2.2.2 (hx.2.1 _ h1) (hx.2.1 _ h2) (hx.2.1 _ h3) hx.2.2.2.1 hr.1 hr.2.1 hr.2.2.1 hx.2.2.2.2.1 hc (fun j hj => ?_) ?_ ?_ hd (fun ad H1 hP hD hS => ?_)
  · rw [hdv j hj]
    show _ = ((List.range N).map fun b => z_dv (fTy a b)).getD j .null
    rw [List.getD_eq_getElem?_getD, List.getElem?_map, List.getElem?_range hj]
    rfl
  · rw [hcnt.1]
    exact Nat.le_trans (Nat.sub_le_sub_right hpre.1 _) hx.2.2.2.2.2.2.1
  · rw [hcnt2]
    exact Nat.le_trans (Nat.sub_le_sub_right hpre.2 _) hx.2.2.2.2.2.2.2
  · have ec : z_cell G (z_phi φ (a, cn σ a + z_off a) ad) (nO σ a (cn σ a + z_off a)) (a, cn σ a + z_off a) = .inr (a, (List.range N).map fun b => z_dv (fTy a b)) := by
      rw [cell_O ha]
      congr 2
      unfold z_fs
      rw [hN]
      apply List.map_congr_left
      intro b _
      have key : ∀ {α : Type} (f : Nat → Nat → Nat → α) (v : α), z_col f a (cn σ a + z_off a) v a b (cn σ a + z_off a) = v := by
        intro α f v
        unfold z_col
        rw [if_pos rfl]
        exact if_pos rfl
      have k1 : gI (nO σ a (cn σ a + z_off a)) a b (cn σ a + z_off a) = 0 := key (gI σ) 0
      have k2 : gJ (nO σ a (cn σ a + z_off a)) a b (cn σ a + z_off a) = 0 := key (gJ σ) 0
      have k3 : gR (nO σ a (cn σ a + z_off a)) a b (cn σ a + z_off a) = none := key (gR σ) none
      unfold z_fv z_dv
      rw [k1, k2, k3]
      rfl
    rw [← ec] at hP hD
    obtain ⟨hrel, hag⟩ := rel_new hr hn hP hD hS
    have kk := kk _ _ H1 locs ls lsA _ hrel (lr_phi hag hv.1 hl) (vs_psh (vs_mono (by rw [hn.1]; exact List.prefix_append _ _) hv) (vv_R (Or.inl (by rw [hn.1]; exact List.mem_append_right _ List.mem_cons_self)))) ho
    unfold z_WW at kk
    rw [← hcnt.1, ← hcnt2] at kk
    have es : (Sum.inr (Sum.inr (some (a, cn σ a + z_off a))) :: st : List z_V).map (rv (z_phi φ (a, cn σ a + z_off a) ad)) = .ref ad :: st.map (rv φ) := by
      rw [List.map_cons, st_phi hag hv.2]
      congr 1
      show Value.ref (z_phi φ (a, cn σ a + z_off a) ad (a, cn σ a + z_off a)) = _
      rw [show z_phi φ (a, cn σ a + z_off a) ad (a, cn σ a + z_off a) = ad from if_pos rfl]
    rw [es] at kk
    exact kk
set_option maxHeartbeats 200000 in
/-- behind a new array -/
theorem new_arr {p : Program} {e : Env} {R : Room} {s : State} {m : MethodId} {args : Array Value} {below : List Frame} {meth : Method} {c : Code} {Q : State → Prop} {A : Nat → Prop} {φ0 : z_Ad → Nat} {σ0 σf σ' : z_St} {r : Option z_V} {φ : z_Ad → Nat} {σ : z_St} {H H1 : Heap} {locs : List Loc} {ls : Array Slot} {lsA : z_L} {st : List z_V} {k : z_K} {a n : Nat} {ad : Nat} (pc2 : Nat) (h16 : 16 ≤ a) (hr : z_rel G s A φ0 σ0 φ σ H locs) (hl : z_lr φ lsA ls nL) (hv : z_vs σ lsA st) (hn : z_new σ σ' (a, n))
    (ho : k lsA (.inr (.inr (some (a, n))) :: st) σ' = some (σf, r))
    (kk : ∀ (φ' : z_Ad → Nat) (σ' : z_St) (H' : Heap) (locs' : List Loc) (ls' : Array Slot) (lsA' : z_L) (st' : List z_V), z_rel G s A φ0 σ0 φ' σ' H' locs' → z_lr φ' lsA' ls' nL → z_vs σ' lsA' st' → k lsA' st' σ' = some (σf, r) → z_WW p l e R s m args below meth c Q σ0 σ' H' locs' (F0 m pc2 ls' (st'.map (rv φ'))))
    (hP : va_P (z_D2 G) z_CL (z_ws G φ σ ++ [(ad, z_cell G (z_phi φ (a, n) ad) σ' (a, n))]) H1) (hD : va_D A (z_ws G φ σ ++ [(ad, z_cell G (z_phi φ (a, n) ad) σ' (a, n))])) (hS : va_S A s.heap H1 locs) :
    W p l e R s m args below meth c H1 locs ((al σ).length - (al σ0).length + 1) (z_sl (al σ) - z_sl (al σ0) + aLen a) Q (F0 m pc2 ls (.ref ad :: st.map (rv φ))) := by
  have hcnt := cnt_new hr.2.2.2.2.2.2.1 hn.1
  have hcnt2 : z_sl (al σ) - z_sl (al σ0) + aLen a = z_sl (al σ') - z_sl (al σ0) := by
    have e2 := hcnt.2
    rw [if_neg (show ¬ a < 16 by omega)] at e2
    exact e2
  obtain ⟨hrel, hag⟩ := rel_new hr hn hP hD hS
  have kk := kk _ _ H1 locs ls lsA _ hrel (lr_phi hag hv.1 hl) (vs_psh (vs_mono (by rw [hn.1]; exact List.prefix_append _ _) hv) (vv_R (Or.inl (by rw [hn.1]; exact List.mem_append_right _ List.mem_cons_self)))) ho
  unfold z_WW at kk
  rw [← hcnt.1, ← hcnt2] at kk
  have es : (Sum.inr (Sum.inr (some (a, n))) :: st : List z_V).map (rv (z_phi φ (a, n) ad)) = .ref ad :: st.map (rv φ) := by
    rw [List.map_cons, st_phi hag hv.2]
    congr 1
    show Value.ref (z_phi φ (a, n) ad (a, n)) = _
    rw [show z_phi φ (a, n) ad (a, n) = ad from if_pos rfl]
  rw [es] at kk
  exact kk
set_option maxHeartbeats 200000 in
theorem so_newI (a : Nat) (c0 : Int32) (ht : aTy a = 16) (h1 : Cond.arrayClass .int ∈ lw_all) (hn0 : ¬ c0 < 0) (hN : c0.toNatClampNeg = aLen a) (hby : aLen a * componentBytes .int ≤ 536870912) (hd : decode cc pc = .ok (.newarray .int, 2)) : z_SO own cc nL ini d G l C pc 2 (zo_newA a c0) := by
  intro p e R s m args below meth c Q A φ0 σ0 σf r hx hi φ σ H locs ls lsA st hr hl hv k hk ho kk
  obtain ⟨x, st, rfl, g0⟩ := v_pI ho
  obtain ⟨hxc, g1⟩ := v_ck g0
  subst hxc
  have ho : k lsA (.inr (.inr (some (a, cn σ a + z_off a))) :: st) (nA σ a (cn σ a + z_off a)) = some (σf, r) := g1
  have hn := new_nA σ (a := a) (by rw [ht]; decide)
  have h16 := ty_16 ht (by decide)
  have hpre := sl_pre (hk _ _ _ ho)
  have hcnt := cnt_new hr.2.2.2.2.2.2.1 hn.1
  have hcnt2 : z_sl (al σ) - z_sl (al σ0) + aLen a = z_sl (al (nA σ a (cn σ a + z_off a))) - z_sl (al σ0) := by
    have e2 := hcnt.2
    rw [if_neg (show ¬ a < 16 by omega)] at e2
    exact e2
  refine va_newa (atype := .int) (a0 := (aLen a, .inl fun _ => 0)) hx.1.1 hx.1.2.1 (hx.2.1 _ h1) (ty := .int) rfl hx.2.2.2.1 hr.1 hr.2.1 hr.2.2.1 hx.2.2.2.2.1 (fun cA => rfl) hn0 hN hby ?_ ?_ hd (fun ad cA H1 hK hP hD hS => ?_)
  · rw [hcnt.1]
    exact Nat.le_trans (Nat.sub_le_sub_right hpre.1 _) hx.2.2.2.2.2.2.1
  · rw [hcnt2]
    exact Nat.le_trans (Nat.sub_le_sub_right hpre.2 _) hx.2.2.2.2.2.2.2
  · have eA : cA = G.2.2.1 16 := RA_inj (hK.2 11 (cA, .int) rfl).2 (hx.2.2.2.1.2 0 (G.2.2.1 16, .int) rfl).2
    have ec : z_cell G (z_phi φ (a, cn σ a + z_off a) ad) (nA σ a (cn σ a + z_off a)) (a, cn σ a + z_off a) = .inl (cA, aLen a, .inl fun _ => 0) := by
      rw [cell_I ht (by decide) (by decide), eA]
      congr 4
      funext n
      show z_row (gI σ) a (cn σ a + z_off a) (fun _ => 0) a (cn σ a + z_off a) n = 0
      rw [row_at, if_pos ⟨rfl, rfl⟩]
    rw [← ec] at hP hD
    exact new_arr (pc + 2) h16 hr hl ⟨hv.1, (vs_pop hv).2⟩ hn ho kk hP hD hS
set_option maxHeartbeats 200000 in
theorem so_newB (a : Nat) (c0 : Int32) (ht : aTy a = 17) (h1 : Cond.arrayClass .byte ∈ lw_all) (hn0 : ¬ c0 < 0) (hN : c0.toNatClampNeg = aLen a) (hby : aLen a * componentBytes .byte ≤ 536870912) (hd : decode cc pc = .ok (.newarray .byte, 2)) : z_SO own cc nL ini d G l C pc 2 (zo_newA a c0) := by
  intro p e R s m args below meth c Q A φ0 σ0 σf r hx hi φ σ H locs ls lsA st hr hl hv k hk ho kk
  obtain ⟨x, st, rfl, g0⟩ := v_pI ho
  obtain ⟨hxc, g1⟩ := v_ck g0
  subst hxc
  have ho : k lsA (.inr (.inr (some (a, cn σ a + z_off a))) :: st) (nA σ a (cn σ a + z_off a)) = some (σf, r) := g1
  have hn := new_nA σ (a := a) (by rw [ht]; decide)
  have h16 := ty_16 ht (by decide)
  have hpre := sl_pre (hk _ _ _ ho)
  have hcnt := cnt_new hr.2.2.2.2.2.2.1 hn.1
  have hcnt2 : z_sl (al σ) - z_sl (al σ0) + aLen a = z_sl (al (nA σ a (cn σ a + z_off a))) - z_sl (al σ0) := by
    have e2 := hcnt.2
    rw [if_neg (show ¬ a < 16 by omega)] at e2
    exact e2
  refine va_newa (atype := .byte) (a0 := (aLen a, .inl fun _ => 0)) hx.1.1 hx.1.2.1 (hx.2.1 _ h1) (ty := .byte) rfl hx.2.2.2.1 hr.1 hr.2.1 hr.2.2.1 hx.2.2.2.2.1 (fun cA => rfl) hn0 hN hby ?_ ?_ hd (fun ad cA H1 hK hP hD hS => ?_)
  · rw [hcnt.1]
    exact Nat.le_trans (Nat.sub_le_sub_right hpre.1 _) hx.2.2.2.2.2.2.1
  · rw [hcnt2]
    exact Nat.le_trans (Nat.sub_le_sub_right hpre.2 _) hx.2.2.2.2.2.2.2
  · have eA : cA = G.2.2.1 17 := RA_inj (hK.2 11 (cA, .byte) rfl).2 (hx.2.2.2.1.2 1 (G.2.2.1 17, .byte) rfl).2
    have ec : z_cell G (z_phi φ (a, cn σ a + z_off a) ad) (nA σ a (cn σ a + z_off a)) (a, cn σ a + z_off a) = .inl (cA, aLen a, .inl fun _ => 0) := by
      rw [cell_I ht (by decide) (by decide), eA]
      congr 4
      funext n
      show z_row (gI σ) a (cn σ a + z_off a) (fun _ => 0) a (cn σ a + z_off a) n = 0
      rw [row_at, if_pos ⟨rfl, rfl⟩]
    rw [← ec] at hP hD
    exact new_arr (pc + 2) h16 hr hl ⟨hv.1, (vs_pop hv).2⟩ hn ho kk hP hD hS
set_option maxHeartbeats 200000 in
theorem so_newZ (a : Nat) (c0 : Int32) (ht : aTy a = 18) (h1 : Cond.arrayClass .boolean ∈ lw_all) (hn0 : ¬ c0 < 0) (hN : c0.toNatClampNeg = aLen a) (hby : aLen a * componentBytes .boolean ≤ 536870912) (hd : decode cc pc = .ok (.newarray .boolean, 2)) : z_SO own cc nL ini d G l C pc 2 (zo_newA a c0) := by
  intro p e R s m args below meth c Q A φ0 σ0 σf r hx hi φ σ H locs ls lsA st hr hl hv k hk ho kk
  obtain ⟨x, st, rfl, g0⟩ := v_pI ho
  obtain ⟨hxc, g1⟩ := v_ck g0
  subst hxc
  have ho : k lsA (.inr (.inr (some (a, cn σ a + z_off a))) :: st) (nA σ a (cn σ a + z_off a)) = some (σf, r) := g1
  have hn := new_nA σ (a := a) (by rw [ht]; decide)
  have h16 := ty_16 ht (by decide)
  have hpre := sl_pre (hk _ _ _ ho)
  have hcnt := cnt_new hr.2.2.2.2.2.2.1 hn.1
  have hcnt2 : z_sl (al σ) - z_sl (al σ0) + aLen a = z_sl (al (nA σ a (cn σ a + z_off a))) - z_sl (al σ0) := by
    have e2 := hcnt.2
    rw [if_neg (show ¬ a < 16 by omega)] at e2
    exact e2
  refine va_newa (atype := .boolean) (a0 := (aLen a, .inl fun _ => 0)) hx.1.1 hx.1.2.1 (hx.2.1 _ h1) (ty := .boolean) rfl hx.2.2.2.1 hr.1 hr.2.1 hr.2.2.1 hx.2.2.2.2.1 (fun cA => rfl) hn0 hN hby ?_ ?_ hd (fun ad cA H1 hK hP hD hS => ?_)
  · rw [hcnt.1]
    exact Nat.le_trans (Nat.sub_le_sub_right hpre.1 _) hx.2.2.2.2.2.2.1
  · rw [hcnt2]
    exact Nat.le_trans (Nat.sub_le_sub_right hpre.2 _) hx.2.2.2.2.2.2.2
  · have eA : cA = G.2.2.1 18 := RA_inj (hK.2 11 (cA, .boolean) rfl).2 (hx.2.2.2.1.2 2 (G.2.2.1 18, .boolean) rfl).2
    have ec : z_cell G (z_phi φ (a, cn σ a + z_off a) ad) (nA σ a (cn σ a + z_off a)) (a, cn σ a + z_off a) = .inl (cA, aLen a, .inl fun _ => 0) := by
      rw [cell_I ht (by decide) (by decide), eA]
      congr 4
      funext n
      show z_row (gI σ) a (cn σ a + z_off a) (fun _ => 0) a (cn σ a + z_off a) n = 0
      rw [row_at, if_pos ⟨rfl, rfl⟩]
    rw [← ec] at hP hD
    exact new_arr (pc + 2) h16 hr hl ⟨hv.1, (vs_pop hv).2⟩ hn ho kk hP hD hS
set_option maxHeartbeats 200000 in
theorem so_newJ (a : Nat) (c0 : Int32) (ht : aTy a = 19) (h1 : Cond.arrayClass .long ∈ lw_all) (hn0 : ¬ c0 < 0) (hN : c0.toNatClampNeg = aLen a) (hby : aLen a * componentBytes .long ≤ 536870912) (hd : decode cc pc = .ok (.newarray .long, 2)) : z_SO own cc nL ini d G l C pc 2 (zo_newA a c0) := by
  intro p e R s m args below meth c Q A φ0 σ0 σf r hx hi φ σ H locs ls lsA st hr hl hv k hk ho kk
  obtain ⟨x, st, rfl, g0⟩ := v_pI ho
  obtain ⟨hxc, g1⟩ := v_ck g0
  subst hxc
  have ho : k lsA (.inr (.inr (some (a, cn σ a + z_off a))) :: st) (nA σ a (cn σ a + z_off a)) = some (σf, r) := g1
  have hn := new_nA σ (a := a) (by rw [ht]; decide)
  have h16 := ty_16 ht (by decide)
  have hpre := sl_pre (hk _ _ _ ho)
  have hcnt := cnt_new hr.2.2.2.2.2.2.1 hn.1
  have hcnt2 : z_sl (al σ) - z_sl (al σ0) + aLen a = z_sl (al (nA σ a (cn σ a + z_off a))) - z_sl (al σ0) := by
    have e2 := hcnt.2
    rw [if_neg (show ¬ a < 16 by omega)] at e2
    exact e2
  refine va_newa (atype := .long) (a0 := (aLen a, .inr (.inl fun _ => 0))) hx.1.1 hx.1.2.1 (hx.2.1 _ h1) (ty := .long) rfl hx.2.2.2.1 hr.1 hr.2.1 hr.2.2.1 hx.2.2.2.2.1 (fun cA => rfl) hn0 hN hby ?_ ?_ hd (fun ad cA H1 hK hP hD hS => ?_)
  · rw [hcnt.1]
    exact Nat.le_trans (Nat.sub_le_sub_right hpre.1 _) hx.2.2.2.2.2.2.1
  · rw [hcnt2]
    exact Nat.le_trans (Nat.sub_le_sub_right hpre.2 _) hx.2.2.2.2.2.2.2
  · have eA : cA = G.2.2.1 19 := RA_inj (hK.2 11 (cA, .long) rfl).2 (hx.2.2.2.1.2 3 (G.2.2.1 19, .long) rfl).2
    have ec : z_cell G (z_phi φ (a, cn σ a + z_off a) ad) (nA σ a (cn σ a + z_off a)) (a, cn σ a + z_off a) = .inl (cA, aLen a, .inr (.inl fun _ => 0)) := by
      rw [cell_J ht, eA]
      congr 5
      funext n
      show z_row (gJ σ) a (cn σ a + z_off a) (fun _ => 0) a (cn σ a + z_off a) n = 0
      rw [row_at, if_pos ⟨rfl, rfl⟩]
    rw [← ec] at hP hD
    exact new_arr (pc + 2) h16 hr hl ⟨hv.1, (vs_pop hv).2⟩ hn ho kk hP hD hS
set_option maxHeartbeats 200000 in
theorem so_newQ (a : Nat) (c0 : Int32) {Cn : String} {idx : Nat} (ht : 20 ≤ aTy a ∧ aTy a ≤ 26) (hE : ∀ G : z_G, (z_tys G)[aTy a - 16]? = some (G.2.2.1 (aTy a), .object Cn)) (h1 : Cond.classLink own idx Cn ∈ lw_all) (h2 : Cond.arrayOver (.object Cn) ∈ lw_tbl) (hn0 : ¬ c0 < 0) (hN : c0.toNatClampNeg = aLen a) (hby : aLen a * 4 ≤ 536870912) (hd : decode cc pc = .ok (.anewarray idx, 3)) : z_SO own cc nL ini d G l C pc 3 (zo_newA a c0) := by
  intro p e R s m args below meth c Q A φ0 σ0 σf r hx hi φ σ H locs ls lsA st hr hl hv k hk ho kk
  obtain ⟨x, st, rfl, g0⟩ := v_pI ho
  obtain ⟨hxc, g1⟩ := v_ck g0
  subst hxc
  have ho : k lsA (.inr (.inr (some (a, cn σ a + z_off a))) :: st) (nA σ a (cn σ a + z_off a)) = some (σf, r) := g1
  have hn := new_nA σ (a := a) ⟨by omega, ht.2⟩
  have h16 := ty_16 (a := a) rfl (by omega)
  have hpre := sl_pre (hk _ _ _ ho)
  have hcnt := cnt_new hr.2.2.2.2.2.2.1 hn.1
  have hcnt2 : z_sl (al σ) - z_sl (al σ0) + aLen a = z_sl (al (nA σ a (cn σ a + z_off a))) - z_sl (al σ0) := by
    have e2 := hcnt.2
    rw [if_neg (show ¬ a < 16 by omega)] at e2
    exact e2
  refine va_newq hx.1.1 hx.1.2.1 hx.1.2.2.2 (hx.2.1 _ h1) (va_AO.of (hx.2.2.1 _ h2 rfl)) hx.2.2.2.1 hr.1 hr.2.1 hr.2.2.1 hx.2.2.2.2.1 hn0 hN hby ?_ ?_ hd (fun ad cA H1 hK hP hD hS => ?_)
  · rw [hcnt.1]
    exact Nat.le_trans (Nat.sub_le_sub_right hpre.1 _) hx.2.2.2.2.2.2.1
  · rw [hcnt2]
    exact Nat.le_trans (Nat.sub_le_sub_right hpre.2 _) hx.2.2.2.2.2.2.2
  · have eA : cA = G.2.2.1 (aTy a) := RA_inj (hK.2 11 (cA, .object Cn) rfl).2 (hx.2.2.2.1.2 _ _ (hE G)).2
    have ec : z_cell G (z_phi φ (a, cn σ a + z_off a) ad) (nA σ a (cn σ a + z_off a)) (a, cn σ a + z_off a) = .inl (cA, aLen a, .inr (.inr (.inr (.inr fun _ => none)))) := by
      rw [cell_R rfl ht.1, eA]
      congr 7
      funext n
      show Option.map _ (z_row (gR σ) a (cn σ a + z_off a) (fun _ => none) a (cn σ a + z_off a) n) = none
      rw [row_at, if_pos ⟨rfl, rfl⟩]
      rfl
    rw [← ec] at hP hD
    exact new_arr (pc + 3) h16 hr hl ⟨hv.1, (vs_pop hv).2⟩ hn ho kk hP hD hS
end SNN
