/-! PART 12z: the body of an enum's values(): a copy of the constants' array -/
theorem new_nV (σ : z_St) {a : Nat} (ha : 16 ≤ aTy a ∧ aTy a ≤ 26) (h17 : aTy a ≠ 17) : z_new σ (rR (nA σ a (cn σ a + z_off a)) a (cn σ a + z_off a) (fun i => if i < 5 then some (12, i) else none)) (a, cn σ a + z_off a) := by
  obtain ⟨h1, h2, h3, h4, h5, h6⟩ := new_nA σ ha
  have h16 := ty_16 (a := a) rfl ha.1
  refine ⟨h1, h2, h3, h4, fun x b n ho => ?_, fun x b n ho => ?_⟩
  · obtain ⟨g1, g2, g3⟩ := h5 x b n ho
    refine ⟨g1, g2, ?_⟩
    rw [gR_rR, if_neg]
    · exact g3
    · intro ee
      apply ho
      unfold z_own
      rw [if_neg (by omega), ee.1, ee.2]
  · obtain ⟨g1, g2⟩ := h6 x b n ho
    refine ⟨fun w hw => ?_, g2⟩
    rw [gR_rR] at hw
    split at hw
    · split at hw
      · cases hw
        exact Or.inr ⟨show 12 ≤ 12 by decide, show 12 ≤ 15 by decide⟩
      · cases hw
    · exact g1 w hw
section SNV
variable {cc : ByteArray} {nL d : Nat} {ini : Bool} {G : z_G} {l : Launch} {C : z_O}
set_option maxHeartbeats 400000 in
theorem so_vals (a : Nat) {i1 i2 i3 : Nat} (ht : aTy a = 26) (hL : aLen a = 5) (k1 : Cond.fieldLink "QuotaPeers$Command" i1 "QuotaPeers$Command" "$VALUES" "[LQuotaPeers$Command;" ∈ lw_all) (k2 : Cond.methodLink "QuotaPeers$Command" i2 ⟨"[LQuotaPeers$Command;", "clone", "()Ljava/lang/Object;"⟩ ∈ lw_all) (k3 : Cond.sameMethod "[LQuotaPeers$Command;" "java/lang/Object" "clone" "()Ljava/lang/Object;" ∈ lw_all) (k4 : Cond.native ⟨"java/lang/Object", "clone", "()Ljava/lang/Object;"⟩ ∈ lw_all) (k5 : Cond.instanceMethod ⟨"java/lang/Object", "clone", "()Ljava/lang/Object;"⟩ ∈ lw_all) (k6 : Cond.selects "[LQuotaPeers$Command;" ⟨"[LQuotaPeers$Command;", "clone", "()Ljava/lang/Object;"⟩ ⟨"java/lang/Object", "clone", "()Ljava/lang/Object;"⟩ ∈ lw_all) (k7 : Cond.castable "[LQuotaPeers$Command;" "java/lang/Cloneable" ∈ lw_tbl) (k8 : Cond.classLink "QuotaPeers$Command" i3 "[LQuotaPeers$Command;" ∈ lw_all)
    (d1 : decode cc 0 = .ok (.getstatic i1, 3)) (d2 : decode cc 3 = .ok (.invokevirtual i2, 3)) (d3 : decode cc 6 = .ok (.checkcast i3, 3)) : z_SO "QuotaPeers$Command" cc nL ini d G l C 0 9 (zo_vals a) := by
  intro p e R s m args below meth c Q A φ0 σ0 σf r hx hi φ σ H locs ls lsA st hr hl hv k hk ho kk
  obtain ⟨hw, ho⟩ := v_cw ho
  have ho : k lsA (.inr (.inr (some (a, cn σ a + z_off a))) :: st) (rR (nA σ a (cn σ a + z_off a)) a (cn σ a + z_off a) (fun i => if i < 5 then some (12, i) else none)) = some (σf, r) := ho
  have hn := new_nV σ (a := a) (by omega) (by omega)
  have h16 := ty_16 ht (by decide)
  have hpre := sl_pre (hk _ _ _ ho)
  have hcnt := cnt_new hr.2.2.2.2.2.2.1 hn.1
  have hcnt2 : z_sl (al σ) - z_sl (al σ0) + aLen a = z_sl (al (rR (nA σ a (cn σ a + z_off a)) a (cn σ a + z_off a) (fun i => if i < 5 then some (12, i) else none))) - z_sl (al σ0) := by
    have e2 := hcnt.2
    rw [if_neg (show ¬ a < 16 by omega)] at e2
    exact e2
  obtain ⟨hP, hD, hS, hok, hφ, hRO, -⟩ := id hr
  obtain ⟨hZ, ⟨cell, hcell, hc1, hc2, hc3, hc4⟩, hAv⟩ := hRO.2.2.2.2.2.2
  generalize hva : G.2.2.2 (15, 0) = va at hZ hcell hAv
  have hvs : va < s.heap.size := (Array.getElem?_eq_some_iff.mp hcell).1
  have hcH : H[va]? = some cell := by
    rw [hS.2.1 va hvs hAv]
    exact hcell
  refine va_gets hx.1.1 hx.1.2.1 hZ hS hx.1.2.2.2 (hx.2.1 _ k1) (fun x h => h) d1 ?_
  have hRA := hx.2.2.2.1.2 10 (G.2.2.1 26, .object "QuotaPeers$Command") rfl
  have hnm : s.vm.findClass "[LQuotaPeers$Command;" = some (G.2.2.1 26) := by
    obtain ⟨_, _, _, _, _, g⟩ := hRA.2
    exact g
  generalize hAR : (arrV (G.2.2.1 26) 5 (fun i => va_rf (if i < 5 then some (G.2.2.2 (12, i)) else none)) : Cell) = AR at hc2
  have eAR : AR = vp_cell (G.2.2.1 26) (5, .inr (.inr (.inr (.inr fun i => if i < 5 then some (G.2.2.2 (12, i)) else none)))) := hAR.symm
  have esz : AR.slots.size = 5 := by rw [← hAR]; exact arrV_size _ _ _
  have ecell : ({ cls := cell.cls, slots := cell.slots } : Cell) = AR := by
    rw [hc1, hc2, ← hAR]
    rfl
  have hlo : ((st.map (rv φ)).map fun v => v.category).sum + 14 ≤ R.locals := by
    rw [rv_w]
    refine Nat.le_trans ?_ hx.2.2.2.2.2.1.2
    omega
  have hce : (al σ).length - (al σ0).length + 1 ≤ R.cells := by
    rw [hcnt.1]
    exact Nat.le_trans (Nat.sub_le_sub_right hpre.1 _) hx.2.2.2.2.2.2.1
  have hsl : z_sl (al σ) - z_sl (al σ0) + 5 ≤ R.slots := by
    rw [← hL, hcnt2]
    exact Nat.le_trans (Nat.sub_le_sub_right hpre.2 _) hx.2.2.2.2.2.2.2
  have hP3 : va_P (z_D2 G) z_CL (z_ws G φ σ ++ [(H.size, .inl (G.2.2.1 26, 5, .inr (.inr (.inr (.inr fun i => if i < 5 then some (G.2.2.2 (12, i)) else none)))))]) (H.push AR) := by
    refine (hP.kept (fun kx q hq => ?_)).app (fun kx q hq => ?_)
    · rw [Array.getElem?_push, if_neg (Nat.ne_of_lt (hP kx q hq).lt)]
    · have hz : kx < 1 := (List.getElem?_eq_some_iff.mp hq).1
      rw [show kx = 0 by omega] at hq
      cases hq
      show (H.push AR)[H.size]? = some _
      rw [Array.getElem?_push_size, eAR]
  have hD3 : va_D A (z_ws G φ σ ++ [(H.size, .inl (G.2.2.1 26, 5, .inr (.inr (.inr (.inr fun i => if i < 5 then some (G.2.2.2 (12, i)) else none)))))]) := hD.push hP rfl (hx.2.2.2.2.1 _ hS.1)
  have hS3 : va_S A s.heap (H.push AR) locs := ⟨by rw [Array.size_push]; exact Nat.le_trans hS.1 (Nat.le_succ _), fun q h1 h2 => by
    rw [Array.getElem?_push, if_neg (by have := hS.1; omega)]
    exact hS.2.1 q h1 h2, hS.2.2⟩
  have key : W p l e R s m args below meth c (H.push AR) locs ((al σ).length - (al σ0).length + 1) (z_sl (al σ) - z_sl (al σ0) + 5) Q (F0 m 6 ls (.ref H.size :: st.map (rv φ))) := by
    refine va_castA hx.1.1 hx.1.2.1 hx.1.2.2.2 (hx.2.1 _ k8) hP3 (z_ws G φ σ).length (cA := G.2.2.1 26) (x := (5, .inr (.inr (.inr (.inr fun i => if i < 5 then some (G.2.2.2 (12, i)) else none))))) (by simp) hnm d3 ?_
    generalize had : H.size = ad at hP3 hD3
    have ec : z_cell G (z_phi φ (a, cn σ a + z_off a) ad) (rR (nA σ a (cn σ a + z_off a)) a (cn σ a + z_off a) (fun i => if i < 5 then some (12, i) else none)) (a, cn σ a + z_off a) = .inl (G.2.2.1 26, 5, .inr (.inr (.inr (.inr fun i => if i < 5 then some (G.2.2.2 (12, i)) else none)))) := by
      rw [cell_R ht (by decide), gR_self]
      have e5 : aLen (a, cn σ a + z_off a).1 = 5 := hL
      rw [e5]
      congr 7
      funext i
      split
      · show some (z_phi φ (a, cn σ a + z_off a) ad (12, i)) = some _
        rw [show z_phi φ (a, cn σ a + z_off a) ad (12, i) = φ (12, i) from if_neg (fun ee => by have := congrArg Prod.fst ee; have h3 : 12 = a := this; omega)]
        rw [hφ (12, i) (Nat.le_refl 12) (show 12 ≤ 15 by decide)]
      · rfl
    rw [← ec] at hP3 hD3
    have key := new_arr (p := p) (e := e) (R := R) (m := m) (args := args) (below := below) (meth := meth) (c := c) (Q := Q) 9 h16 hr hl hv hn ho kk hP3 hD3 hS3
    rw [hL] at key
    exact key
  obtain ⟨c0, t0', f1, f2, f3⟩ := Cond.castable_spec (va_Nw.use (A := args) rfl (hx.2.2.1 _ k7 rfl))
  cases hnm.symm.trans f1
  intro T hT X
  obtain ⟨-, kA, hkA, comp, hkind⟩ := State.isArrayOf_alike X.warmed.alike (hRA.1 0 (fun _ => .null))
  obtain ⟨-, kS, hkS, compS, hkindS⟩ := hRA.1 0 (fun _ => .null)
  obtain ⟨vm', X', go⟩ := X.cloneArray hx.1.1 hx.1.2.2.2 (hx.2.1 _ k2) (hx.2.1 _ k3) (hx.2.1 _ k4) (hx.2.1 _ k5) (hx.2.1 _ k6) (a := va) (cell := cell) (by rw [hT]; exact hcH) hc3 hc4 (by rw [hc1]; exact hnm) f2 (by rw [hc1]; exact f3)
    (fun i v hvv => by
      rw [hc1]
      have hk' : T.vm.classes[G.2.2.1 26]? = some kA := hkA
      have hfit : fits (.object "QuotaPeers$Command") v = true := by
        rw [hc2, ← hAR] at hvv
        have hlt : i < 5 := by
          have := (Array.getElem?_eq_some_iff.mp hvv).1
          rw [arrV_size] at this
          exact this
        rw [arrV_read _ _ hlt] at hvv
        cases hvv
        exact fit_R rfl _
      simpa [State.fitsSlot, State.slotType?, hk', hkind] using hfit)
    (g := F0 m 3 ls (.ref va :: st.map (rv φ))) rfl (by rw [hx.1.2.2.1]; exact hl.1.1) rfl (by rw [hx.1.2.1]; exact d2) (Nat.le_trans (Nat.le_add_left 1 d) hx.2.2.2.2.2.1.1) (by show 2 * 0 + _ + 14 ≤ _; omega) hce (by rw [hc2, esz]; exact hsl) (hloader := by rw [hc1]; exact Vm.clonesLoader_of_array hkS hkindS)
  rw [ecell, hc2, esz] at X'
  obtain ⟨t, b1, b2⟩ := key ((T.setVm vm').pushCell AR) (by rw [← hT]; rfl) X'
  refine ⟨t, go t ?_, b2⟩
  rw [ecell, hT]
  exact b1
end SNV
