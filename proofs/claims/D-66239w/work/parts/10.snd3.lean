/-! PART 10 (printed by wip/gen/gen10.py): the call operations, the ends of blocks, a block, a method -/
section SNK
variable {own : String} {cc : ByteArray} {nL d pc : Nat} {ini : Bool} {G : z_G} {l : Launch} {C : z_O} {tb : Nat → MethodName × ByteArray × Nat × Option FieldType}
theorem vv_cons {σ : z_St} {w : z_V} {as : List z_V} (h1 : z_vv σ w) (h2 : ∀ v ∈ as, z_vv σ v) : ∀ v ∈ w :: as, z_vv σ v := by
  intro v hm
  rcases List.mem_cons.mp hm with e2 | e2
  · rw [e2]; exact h1
  · exact h2 v (by
      have e3 := e2
      exact e3)
theorem rm_ok {p : Program} {R : Room} {s : State} {m : MethodId} {args : Array Value} {meth : Method} {c : Code} {A : Nat → Prop} {σ0 σf : z_St} (hx : z_cx own cc nL d G p R s m args meth c A σ0 σf) {L2 mc ms : Nat} (h : L2 ≤ 180) :
    ({ frames := d, cells := mc, slots := ms, locals := 200 * d } : Room).frames + 1 ≤ R.frames ∧ 8 + (L2 + 11) + ({ frames := d, cells := mc, slots := ms, locals := 200 * d } : Room).locals ≤ R.locals := by
  refine ⟨hx.2.2.2.2.2.1.1, Nat.le_trans ?_ hx.2.2.2.2.2.1.2⟩
  show 8 + (L2 + 11) + 200 * d ≤ 200 * (d + 1)
  omega
theorem cnt_call {p : Program} {R : Room} {s : State} {m : MethodId} {args : Array Value} {meth : Method} {c : Code} {A : Nat → Prop} {σ0 σ σ1 σf : z_St} (hx : z_cx own cc nL d G p R s m args meth c A σ0 σf) (h0 : al σ0 <+: al σ) (h1 : al σ <+: al σ1) (h2 : al σ1 <+: al σf) :
    (al σ).length - (al σ0).length + ((al σ1).length - (al σ).length) ≤ R.cells ∧ z_sl (al σ) - z_sl (al σ0) + (z_sl (al σ1) - z_sl (al σ)) ≤ R.slots := by
  have c0 := sl_pre h0
  have c1 := sl_pre h1
  have c2 := sl_pre h2
  have a1 := hx.2.2.2.2.2.2.1
  have a2 := hx.2.2.2.2.2.2.2
  omega
set_option maxHeartbeats 200000 in
theorem so_cvV (y n a : Nat) {idx L2 : Nat} {Cn : String} {N : Nat} {T : u_T} {yn : MethodName} {code2 : ByteArray} {rt : Option FieldType} (hC : z_HC l G d tb C) (htb : tb y = (yn, code2, L2, rt)) (hL2 : L2 ≤ 180) (hc : z_CL[a]? = some (Cn, T, N)) (ha : a < 11) (h1 : Cond.methodLink own idx yn ∈ lw_all) (h2 : Cond.instanceMethod yn ∈ lw_all) (h3 : Cond.selects Cn yn yn ∈ lw_all) (h4 : Cond.initialized Cn ∈ lw_all) (h5 : Cond.code yn code2 L2 rt ∈ lw_all) (hd2 : (yn.cls = Cn ∧ yn.cls ≠ "java/lang/invoke/MethodHandle" ∧ yn.cls ≠ "java/lang/invoke/VarHandle" ∧ (parseMethodDescriptor yn.desc).map (fun d => d.parameters.length) = some n)) (hd : decode cc pc = .ok (.invokevirtual idx, 3)) : z_SO own cc nL ini d G l C pc 3 (zo_cvV y n a) := by
  intro p e R s m args below meth c Q A φ0 σ0 σf r hx hi φ σ H locs ls lsA st hr hl hv k hk ho kk
  obtain ⟨as, st, rfl, hlen, g0⟩ := v_pA ho
  have hvr : z_vs σ lsA _ ∧ ∀ v ∈ as, z_vv σ v := ⟨(vs_rest hv).1, fun v hm => (vs_rest hv).2 v (List.mem_reverse.mpr hm)⟩
  obtain ⟨q, st, rfl, g1⟩ := v_pD g0
  obtain ⟨hqa, g2⟩ := v_ck g1
  obtain ⟨hw, g3⟩ := v_cw g2
  obtain ⟨qa, qn⟩ := q
  have hqa : qa = a := hqa
  subst hqa
  obtain ⟨σ1, hy, g4⟩ := v_clv g3
  have hM := hC.2 y _ σ σ1 _ φ H.size hy
  unfold z_Met at hM
  rw [htb] at hM
  have hp1 := hC.1 _ _ _ _ _ hy
  have hcnt := cnt_call hx hr.2.2.2.2.2.2.1 hp1 (hk _ _ _ g4)
  have hq := val_al (vs_top hvr.1 _ rfl) (Or.inl (show qa < 12 by omega))
  obtain ⟨j, hj, he⟩ := ws_at (G := G) (φ := φ) hq
  rw [cell_O (by omega)] at he
  have es : (as.reverse ++ .inr (.inr (some (qa, qn))) :: st).map (rv φ) = (as.map (rv φ)).reverse ++ .ref (φ (qa, qn)) :: st.map (rv φ) := by
    rw [List.map_append, List.map_reverse]
    rfl
  rw [es]
  exact call_go hC.1 hy hx hr hl (vs_pop hvr.1) (va_runV ⟨hx.1.1, hx.1.2.1, hx.1.2.2.1, hx.1.2.2.2, hx.2.1⟩ hM (cwV n hx.2.1 (lw_V h1 h2 h3 h4 h5) rfl rfl rfl hd2 (rm_ok hx hL2)) ⟨pc_blind, va_recv hx.2.2.2.1 hr.1 hc he, (pre_of hx hr (vv_cons (vs_top hvr.1) hvr.2))⟩ rfl (by rw [List.length_map]; exact hlen) hl.1.1 rfl (lv_room (by rw [rv_w]; exact hw)) hd hcnt) (fun φ' H' locs' hr1 hl1 hv1 => kk φ' σ1 H' locs' ls lsA _ hr1 hl1 hv1 g4)
set_option maxHeartbeats 200000 in
theorem so_cvVN (y n a : Nat) {idx L2 : Nat} {Cn : String} {N : Nat} {T : u_T} {yn : MethodName} {code2 : ByteArray} {rt : Option FieldType} {host : String} (hC : z_HC l G d tb C) (htb : tb y = (yn, code2, L2, rt)) (hL2 : L2 ≤ 180) (hc : z_CL[a]? = some (Cn, T, N)) (ha : a < 11) (h1 : Cond.methodLinkNest own idx yn host ∈ lw_tbl) (h2 : Cond.instanceMethod yn ∈ lw_all) (h3 : Cond.selects Cn yn yn ∈ lw_all) (h4 : Cond.initialized yn.cls ∈ lw_all) (h5 : Cond.code yn code2 L2 rt ∈ lw_all) (hd2 : (yn.cls ≠ "java/lang/invoke/MethodHandle" ∧ yn.cls ≠ "java/lang/invoke/VarHandle" ∧ (parseMethodDescriptor yn.desc).map (fun d => d.parameters.length) = some n)) (hd : decode cc pc = .ok (.invokevirtual idx, 3)) : z_SO own cc nL ini d G l C pc 3 (zo_cvV y n a) := by
  intro p e R s m args below meth c Q A φ0 σ0 σf r hx hi φ σ H locs ls lsA st hr hl hv k hk ho kk
  obtain ⟨as, st, rfl, hlen, g0⟩ := v_pA ho
  have hvr : z_vs σ lsA _ ∧ ∀ v ∈ as, z_vv σ v := ⟨(vs_rest hv).1, fun v hm => (vs_rest hv).2 v (List.mem_reverse.mpr hm)⟩
  obtain ⟨q, st, rfl, g1⟩ := v_pD g0
  obtain ⟨hqa, g2⟩ := v_ck g1
  obtain ⟨hw, g3⟩ := v_cw g2
  obtain ⟨qa, qn⟩ := q
  have hqa : qa = a := hqa
  subst hqa
  obtain ⟨σ1, hy, g4⟩ := v_clv g3
  have hM := hC.2 y _ σ σ1 _ φ H.size hy
  unfold z_Met at hM
  rw [htb] at hM
  have hp1 := hC.1 _ _ _ _ _ hy
  have hcnt := cnt_call hx hr.2.2.2.2.2.2.1 hp1 (hk _ _ _ g4)
  have hq := val_al (vs_top hvr.1 _ rfl) (Or.inl (show qa < 12 by omega))
  obtain ⟨j, hj, he⟩ := ws_at (G := G) (φ := φ) hq
  rw [cell_O (by omega)] at he
  have es : (as.reverse ++ .inr (.inr (some (qa, qn))) :: st).map (rv φ) = (as.map (rv φ)).reverse ++ .ref (φ (qa, qn)) :: st.map (rv φ) := by
    rw [List.map_append, List.map_reverse]
    rfl
  rw [es]
  exact call_go hC.1 hy hx hr hl (vs_pop hvr.1) (va_runVN ⟨hx.1.1, hx.1.2.1, hx.1.2.2.1, hx.1.2.2.2, hx.2.1⟩ hM ⟨va_cnB n hx.2.1 (lw_meth h5) rfl rfl rfl (hx.2.2.1 _ h1 rfl) (hx.2.1 _ h4) hd2 (rm_ok hx hL2), hx.2.1 _ h2, hx.2.1 _ h3⟩ ⟨pc_blind, va_recv hx.2.2.2.1 hr.1 hc he, (pre_of hx hr (vv_cons (vs_top hvr.1) hvr.2))⟩ rfl (by rw [List.length_map]; exact hlen) hl.1.1 rfl (lv_room (by rw [rv_w]; exact hw)) hd hcnt) (fun φ' H' locs' hr1 hl1 hv1 => kk φ' σ1 H' locs' ls lsA _ hr1 hl1 hv1 g4)
set_option maxHeartbeats 200000 in
theorem so_crV (y n a : Nat) {idx L2 : Nat} {Cn : String} {N : Nat} {T : u_T} {yn : MethodName} {code2 : ByteArray} {rt : Option FieldType} (hC : z_HC l G d tb C) (htb : tb y = (yn, code2, L2, rt)) (hL2 : L2 ≤ 180) (hc : z_CL[a]? = some (Cn, T, N)) (ha : a < 11) (h1 : Cond.methodLink own idx yn ∈ lw_all) (h2 : Cond.instanceMethod yn ∈ lw_all) (h3 : Cond.selects Cn yn yn ∈ lw_all) (h4 : Cond.initialized Cn ∈ lw_all) (h5 : Cond.code yn code2 L2 rt ∈ lw_all) (hd2 : (yn.cls = Cn ∧ yn.cls ≠ "java/lang/invoke/MethodHandle" ∧ yn.cls ≠ "java/lang/invoke/VarHandle" ∧ (parseMethodDescriptor yn.desc).map (fun d => d.parameters.length) = some n)) (hd : decode cc pc = .ok (.invokevirtual idx, 3)) : z_SO own cc nL ini d G l C pc 3 (zo_crV y n a) := by
  intro p e R s m args below meth c Q A φ0 σ0 σf r hx hi φ σ H locs ls lsA st hr hl hv k hk ho kk
  obtain ⟨as, st, rfl, hlen, g0⟩ := v_pA ho
  have hvr : z_vs σ lsA _ ∧ ∀ v ∈ as, z_vv σ v := ⟨(vs_rest hv).1, fun v hm => (vs_rest hv).2 v (List.mem_reverse.mpr hm)⟩
  obtain ⟨q, st, rfl, g1⟩ := v_pD g0
  obtain ⟨hqa, g2⟩ := v_ck g1
  obtain ⟨hw, g3⟩ := v_cw g2
  obtain ⟨qa, qn⟩ := q
  have hqa : qa = a := hqa
  subst hqa
  obtain ⟨σ1, vv, hy, g4⟩ := v_clr g3
  have hM := hC.2 y _ σ σ1 _ φ H.size hy
  unfold z_Met at hM
  rw [htb] at hM
  have hp1 := hC.1 _ _ _ _ _ hy
  have hcnt := cnt_call hx hr.2.2.2.2.2.2.1 hp1 (hk _ _ _ g4)
  have hq := val_al (vs_top hvr.1 _ rfl) (Or.inl (show qa < 12 by omega))
  obtain ⟨j, hj, he⟩ := ws_at (G := G) (φ := φ) hq
  rw [cell_O (by omega)] at he
  have es : (as.reverse ++ .inr (.inr (some (qa, qn))) :: st).map (rv φ) = (as.map (rv φ)).reverse ++ .ref (φ (qa, qn)) :: st.map (rv φ) := by
    rw [List.map_append, List.map_reverse]
    rfl
  rw [es]
  exact call_go hC.1 hy hx hr hl (vs_pop hvr.1) (va_runV ⟨hx.1.1, hx.1.2.1, hx.1.2.2.1, hx.1.2.2.2, hx.2.1⟩ hM (cwV n hx.2.1 (lw_V h1 h2 h3 h4 h5) rfl rfl rfl hd2 (rm_ok hx hL2)) ⟨pc_blind, va_recv hx.2.2.2.1 hr.1 hc he, (pre_of hx hr (vv_cons (vs_top hvr.1) hvr.2))⟩ rfl (by rw [List.length_map]; exact hlen) hl.1.1 rfl (lv_room (by rw [rv_w]; exact hw)) hd hcnt) (fun φ' H' locs' hr1 hl1 hv1 => kk φ' σ1 H' locs' ls lsA _ hr1 hl1 hv1 g4)
set_option maxHeartbeats 200000 in
theorem so_crVN (y n a : Nat) {idx L2 : Nat} {Cn : String} {N : Nat} {T : u_T} {yn : MethodName} {code2 : ByteArray} {rt : Option FieldType} {host : String} (hC : z_HC l G d tb C) (htb : tb y = (yn, code2, L2, rt)) (hL2 : L2 ≤ 180) (hc : z_CL[a]? = some (Cn, T, N)) (ha : a < 11) (h1 : Cond.methodLinkNest own idx yn host ∈ lw_tbl) (h2 : Cond.instanceMethod yn ∈ lw_all) (h3 : Cond.selects Cn yn yn ∈ lw_all) (h4 : Cond.initialized yn.cls ∈ lw_all) (h5 : Cond.code yn code2 L2 rt ∈ lw_all) (hd2 : (yn.cls ≠ "java/lang/invoke/MethodHandle" ∧ yn.cls ≠ "java/lang/invoke/VarHandle" ∧ (parseMethodDescriptor yn.desc).map (fun d => d.parameters.length) = some n)) (hd : decode cc pc = .ok (.invokevirtual idx, 3)) : z_SO own cc nL ini d G l C pc 3 (zo_crV y n a) := by
  intro p e R s m args below meth c Q A φ0 σ0 σf r hx hi φ σ H locs ls lsA st hr hl hv k hk ho kk
  obtain ⟨as, st, rfl, hlen, g0⟩ := v_pA ho
  have hvr : z_vs σ lsA _ ∧ ∀ v ∈ as, z_vv σ v := ⟨(vs_rest hv).1, fun v hm => (vs_rest hv).2 v (List.mem_reverse.mpr hm)⟩
  obtain ⟨q, st, rfl, g1⟩ := v_pD g0
  obtain ⟨hqa, g2⟩ := v_ck g1
  obtain ⟨hw, g3⟩ := v_cw g2
  obtain ⟨qa, qn⟩ := q
  have hqa : qa = a := hqa
  subst hqa
  obtain ⟨σ1, vv, hy, g4⟩ := v_clr g3
  have hM := hC.2 y _ σ σ1 _ φ H.size hy
  unfold z_Met at hM
  rw [htb] at hM
  have hp1 := hC.1 _ _ _ _ _ hy
  have hcnt := cnt_call hx hr.2.2.2.2.2.2.1 hp1 (hk _ _ _ g4)
  have hq := val_al (vs_top hvr.1 _ rfl) (Or.inl (show qa < 12 by omega))
  obtain ⟨j, hj, he⟩ := ws_at (G := G) (φ := φ) hq
  rw [cell_O (by omega)] at he
  have es : (as.reverse ++ .inr (.inr (some (qa, qn))) :: st).map (rv φ) = (as.map (rv φ)).reverse ++ .ref (φ (qa, qn)) :: st.map (rv φ) := by
    rw [List.map_append, List.map_reverse]
    rfl
  rw [es]
  exact call_go hC.1 hy hx hr hl (vs_pop hvr.1) (va_runVN ⟨hx.1.1, hx.1.2.1, hx.1.2.2.1, hx.1.2.2.2, hx.2.1⟩ hM ⟨va_cnB n hx.2.1 (lw_meth h5) rfl rfl rfl (hx.2.2.1 _ h1 rfl) (hx.2.1 _ h4) hd2 (rm_ok hx hL2), hx.2.1 _ h2, hx.2.1 _ h3⟩ ⟨pc_blind, va_recv hx.2.2.2.1 hr.1 hc he, (pre_of hx hr (vv_cons (vs_top hvr.1) hvr.2))⟩ rfl (by rw [List.length_map]; exact hlen) hl.1.1 rfl (lv_room (by rw [rv_w]; exact hw)) hd hcnt) (fun φ' H' locs' hr1 hl1 hv1 => kk φ' σ1 H' locs' ls lsA _ hr1 hl1 hv1 g4)
set_option maxHeartbeats 200000 in
theorem so_cvI (y n a : Nat) {idx L2 : Nat} {Cn : String} {N : Nat} {T : u_T} {yn : MethodName} {code2 : ByteArray} (hC : z_HC l G d tb C) (htb : tb y = (yn, code2, L2, none)) (hL2 : L2 ≤ 180) (hc : z_CL[a]? = some (Cn, T, N)) (ha : a < 11) (h1 : Cond.methodLink own idx yn ∈ lw_all) (h2 : Cond.instanceMethod yn ∈ lw_all) (h4 : Cond.initialized yn.cls ∈ lw_all) (h5 : Cond.code yn code2 L2 none ∈ lw_all) (hy1 : yn.name = "<init>") (hd2 : (yn.cls ≠ "java/lang/invoke/MethodHandle" ∧ yn.cls ≠ "java/lang/invoke/VarHandle" ∧ (parseMethodDescriptor yn.desc).map (fun d => d.parameters.length) = some n)) (hd : decode cc pc = .ok (.invokespecial idx, 3)) : z_SO own cc nL ini d G l C pc 3 (zo_cvV y n a) := by
  intro p e R s m args below meth c Q A φ0 σ0 σf r hx hi φ σ H locs ls lsA st hr hl hv k hk ho kk
  obtain ⟨as, st, rfl, hlen, g0⟩ := v_pA ho
  have hvr : z_vs σ lsA _ ∧ ∀ v ∈ as, z_vv σ v := ⟨(vs_rest hv).1, fun v hm => (vs_rest hv).2 v (List.mem_reverse.mpr hm)⟩
  obtain ⟨q, st, rfl, g1⟩ := v_pD g0
  obtain ⟨hqa, g2⟩ := v_ck g1
  obtain ⟨hw, g3⟩ := v_cw g2
  obtain ⟨qa, qn⟩ := q
  have hqa : qa = a := hqa
  subst hqa
  obtain ⟨σ1, hy, g4⟩ := v_clv g3
  have hM := hC.2 y _ σ σ1 _ φ H.size hy
  unfold z_Met at hM
  rw [htb] at hM
  have hp1 := hC.1 _ _ _ _ _ hy
  have hcnt := cnt_call hx hr.2.2.2.2.2.2.1 hp1 (hk _ _ _ g4)
  have hq := val_al (vs_top hvr.1 _ rfl) (Or.inl (show qa < 12 by omega))
  obtain ⟨j, hj, he⟩ := ws_at (G := G) (φ := φ) hq
  rw [cell_O (by omega)] at he
  have es : (as.reverse ++ .inr (.inr (some (qa, qn))) :: st).map (rv φ) = (as.map (rv φ)).reverse ++ .ref (φ (qa, qn)) :: st.map (rv φ) := by
    rw [List.map_append, List.map_reverse]
    rfl
  rw [es]
  exact call_go hC.1 hy hx hr hl (vs_pop hvr.1) (va_runI ⟨hx.1.1, hx.1.2.1, hx.1.2.2.1, hx.1.2.2.2, hx.2.1⟩ hM (cwI n hx.2.1 (lw_meth h5) rfl rfl rfl (hx.2.1 _ h4) (hx.2.1 _ h1) (hx.2.1 _ h2) hy1 hd2 (rm_ok hx hL2)) ⟨pc_blind, (pre_of hx hr (vv_cons (vs_top hvr.1) hvr.2))⟩ rfl (by rw [List.length_map]; exact hlen) hl.1.1 rfl (lv_room (by rw [rv_w]; exact hw)) hd hcnt) (fun φ' H' locs' hr1 hl1 hv1 => kk φ' σ1 H' locs' ls lsA _ hr1 hl1 hv1 g4)
set_option maxHeartbeats 200000 in
theorem so_cvIN (y n a : Nat) {idx L2 : Nat} {Cn : String} {N : Nat} {T : u_T} {yn : MethodName} {code2 : ByteArray} {host : String} (hC : z_HC l G d tb C) (htb : tb y = (yn, code2, L2, none)) (hL2 : L2 ≤ 180) (hc : z_CL[a]? = some (Cn, T, N)) (ha : a < 11) (h1 : Cond.methodLinkNest own idx yn host ∈ lw_tbl) (h2 : Cond.instanceMethod yn ∈ lw_all) (h4 : Cond.initialized yn.cls ∈ lw_all) (h5 : Cond.code yn code2 L2 none ∈ lw_all) (hy1 : yn.name = "<init>") (hd2 : (yn.cls ≠ "java/lang/invoke/MethodHandle" ∧ yn.cls ≠ "java/lang/invoke/VarHandle" ∧ (parseMethodDescriptor yn.desc).map (fun d => d.parameters.length) = some n)) (hd : decode cc pc = .ok (.invokespecial idx, 3)) : z_SO own cc nL ini d G l C pc 3 (zo_cvV y n a) := by
  intro p e R s m args below meth c Q A φ0 σ0 σf r hx hi φ σ H locs ls lsA st hr hl hv k hk ho kk
  obtain ⟨as, st, rfl, hlen, g0⟩ := v_pA ho
  have hvr : z_vs σ lsA _ ∧ ∀ v ∈ as, z_vv σ v := ⟨(vs_rest hv).1, fun v hm => (vs_rest hv).2 v (List.mem_reverse.mpr hm)⟩
  obtain ⟨q, st, rfl, g1⟩ := v_pD g0
  obtain ⟨hqa, g2⟩ := v_ck g1
  obtain ⟨hw, g3⟩ := v_cw g2
  obtain ⟨qa, qn⟩ := q
  have hqa : qa = a := hqa
  subst hqa
  obtain ⟨σ1, hy, g4⟩ := v_clv g3
  have hM := hC.2 y _ σ σ1 _ φ H.size hy
  unfold z_Met at hM
  rw [htb] at hM
  have hp1 := hC.1 _ _ _ _ _ hy
  have hcnt := cnt_call hx hr.2.2.2.2.2.2.1 hp1 (hk _ _ _ g4)
  have hq := val_al (vs_top hvr.1 _ rfl) (Or.inl (show qa < 12 by omega))
  obtain ⟨j, hj, he⟩ := ws_at (G := G) (φ := φ) hq
  rw [cell_O (by omega)] at he
  have es : (as.reverse ++ .inr (.inr (some (qa, qn))) :: st).map (rv φ) = (as.map (rv φ)).reverse ++ .ref (φ (qa, qn)) :: st.map (rv φ) := by
    rw [List.map_append, List.map_reverse]
    rfl
  rw [es]
  exact call_go hC.1 hy hx hr hl (vs_pop hvr.1) (va_runIN ⟨hx.1.1, hx.1.2.1, hx.1.2.2.1, hx.1.2.2.2, hx.2.1⟩ hM ⟨va_cnB n hx.2.1 (lw_meth h5) rfl rfl rfl (hx.2.2.1 _ h1 rfl) (hx.2.1 _ h4) hd2 (rm_ok hx hL2), hy1, hx.2.1 _ h2⟩ ⟨pc_blind, (pre_of hx hr (vv_cons (vs_top hvr.1) hvr.2))⟩ rfl (by rw [List.length_map]; exact hlen) hl.1.1 rfl (lv_room (by rw [rv_w]; exact hw)) hd hcnt) (fun φ' H' locs' hr1 hl1 hv1 => kk φ' σ1 H' locs' ls lsA _ hr1 hl1 hv1 g4)
set_option maxHeartbeats 200000 in
theorem so_cvS (y n : Nat) {idx L2 : Nat} {yn : MethodName} {code2 : ByteArray} {rt : Option FieldType} (hC : z_HC l G d tb C) (htb : tb y = (yn, code2, L2, rt)) (hL2 : L2 ≤ 180) (h1 : Cond.methodLink own idx yn ∈ lw_all) (h2 : Cond.static yn ∈ lw_all) (h4 : Cond.initialized yn.cls ∈ lw_all) (h5 : Cond.code yn code2 L2 rt ∈ lw_all) (hd2 : (yn.cls ≠ "java/lang/invoke/MethodHandle" ∧ yn.cls ≠ "java/lang/invoke/VarHandle" ∧ (parseMethodDescriptor yn.desc).map (fun d => d.parameters.length) = some n)) (hd : decode cc pc = .ok (.invokestatic idx, 3)) : z_SO own cc nL ini d G l C pc 3 (zo_cvS y n) := by
  intro p e R s m args below meth c Q A φ0 σ0 σf r hx hi φ σ H locs ls lsA st hr hl hv k hk ho kk
  obtain ⟨as, st, rfl, hlen, g0⟩ := v_pA ho
  have hvr : z_vs σ lsA _ ∧ ∀ v ∈ as, z_vv σ v := ⟨(vs_rest hv).1, fun v hm => (vs_rest hv).2 v (List.mem_reverse.mpr hm)⟩
  obtain ⟨hw, g3⟩ := v_cw g0
  obtain ⟨σ1, hy, g4⟩ := v_clv g3
  have hM := hC.2 y _ σ σ1 _ φ H.size hy
  unfold z_Met at hM
  rw [htb] at hM
  have hp1 := hC.1 _ _ _ _ _ hy
  have hcnt := cnt_call hx hr.2.2.2.2.2.2.1 hp1 (hk _ _ _ g4)
  have es : (as.reverse ++ st).map (rv φ) = (as.map (rv φ)).reverse ++ st.map (rv φ) := by
    rw [List.map_append, List.map_reverse]
  rw [es]
  exact call_go hC.1 hy hx hr hl hvr.1 (va_runS ⟨hx.1.1, hx.1.2.1, hx.1.2.2.1, hx.1.2.2.2, hx.2.1⟩ hM (va_cwS n hx.2.1 (lw_S h1 h2 h4 h5) rfl rfl rfl hd2 (rm_ok hx hL2)) ⟨pc_blind, (pre_of hx hr hvr.2)⟩ rfl (by rw [List.length_map]; exact hlen) hl.1.1 rfl (lv_room (by rw [rv_w]; exact hw)) hd hcnt) (fun φ' H' locs' hr1 hl1 hv1 => kk φ' σ1 H' locs' ls lsA _ hr1 hl1 hv1 g4)
set_option maxHeartbeats 200000 in
theorem so_cvSN (y n : Nat) {idx L2 : Nat} {yn : MethodName} {code2 : ByteArray} {rt : Option FieldType} {host : String} (hC : z_HC l G d tb C) (htb : tb y = (yn, code2, L2, rt)) (hL2 : L2 ≤ 180) (h1 : Cond.methodLinkNest own idx yn host ∈ lw_tbl) (h2 : Cond.static yn ∈ lw_all) (h4 : Cond.initialized yn.cls ∈ lw_all) (h5 : Cond.code yn code2 L2 rt ∈ lw_all) (hd2 : (yn.cls ≠ "java/lang/invoke/MethodHandle" ∧ yn.cls ≠ "java/lang/invoke/VarHandle" ∧ (parseMethodDescriptor yn.desc).map (fun d => d.parameters.length) = some n)) (hd : decode cc pc = .ok (.invokestatic idx, 3)) : z_SO own cc nL ini d G l C pc 3 (zo_cvS y n) := by
  intro p e R s m args below meth c Q A φ0 σ0 σf r hx hi φ σ H locs ls lsA st hr hl hv k hk ho kk
  obtain ⟨as, st, rfl, hlen, g0⟩ := v_pA ho
  have hvr : z_vs σ lsA _ ∧ ∀ v ∈ as, z_vv σ v := ⟨(vs_rest hv).1, fun v hm => (vs_rest hv).2 v (List.mem_reverse.mpr hm)⟩
  obtain ⟨hw, g3⟩ := v_cw g0
  obtain ⟨σ1, hy, g4⟩ := v_clv g3
  have hM := hC.2 y _ σ σ1 _ φ H.size hy
  unfold z_Met at hM
  rw [htb] at hM
  have hp1 := hC.1 _ _ _ _ _ hy
  have hcnt := cnt_call hx hr.2.2.2.2.2.2.1 hp1 (hk _ _ _ g4)
  have es : (as.reverse ++ st).map (rv φ) = (as.map (rv φ)).reverse ++ st.map (rv φ) := by
    rw [List.map_append, List.map_reverse]
  rw [es]
  exact call_go hC.1 hy hx hr hl hvr.1 (va_runSN ⟨hx.1.1, hx.1.2.1, hx.1.2.2.1, hx.1.2.2.2, hx.2.1⟩ hM ⟨va_cnB n hx.2.1 (lw_meth h5) rfl rfl rfl (hx.2.2.1 _ h1 rfl) (hx.2.1 _ h4) hd2 (rm_ok hx hL2), hx.2.1 _ h2, trivial⟩ ⟨pc_blind, (pre_of hx hr hvr.2)⟩ rfl (by rw [List.length_map]; exact hlen) hl.1.1 rfl (lv_room (by rw [rv_w]; exact hw)) hd hcnt) (fun φ' H' locs' hr1 hl1 hv1 => kk φ' σ1 H' locs' ls lsA _ hr1 hl1 hv1 g4)
set_option maxHeartbeats 200000 in
theorem so_crS (y n : Nat) {idx L2 : Nat} {yn : MethodName} {code2 : ByteArray} {rt : Option FieldType} (hC : z_HC l G d tb C) (htb : tb y = (yn, code2, L2, rt)) (hL2 : L2 ≤ 180) (h1 : Cond.methodLink own idx yn ∈ lw_all) (h2 : Cond.static yn ∈ lw_all) (h4 : Cond.initialized yn.cls ∈ lw_all) (h5 : Cond.code yn code2 L2 rt ∈ lw_all) (hd2 : (yn.cls ≠ "java/lang/invoke/MethodHandle" ∧ yn.cls ≠ "java/lang/invoke/VarHandle" ∧ (parseMethodDescriptor yn.desc).map (fun d => d.parameters.length) = some n)) (hd : decode cc pc = .ok (.invokestatic idx, 3)) : z_SO own cc nL ini d G l C pc 3 (zo_crS y n) := by
  intro p e R s m args below meth c Q A φ0 σ0 σf r hx hi φ σ H locs ls lsA st hr hl hv k hk ho kk
  obtain ⟨as, st, rfl, hlen, g0⟩ := v_pA ho
  have hvr : z_vs σ lsA _ ∧ ∀ v ∈ as, z_vv σ v := ⟨(vs_rest hv).1, fun v hm => (vs_rest hv).2 v (List.mem_reverse.mpr hm)⟩
  obtain ⟨hw, g3⟩ := v_cw g0
  obtain ⟨σ1, vv, hy, g4⟩ := v_clr g3
  have hM := hC.2 y _ σ σ1 _ φ H.size hy
  unfold z_Met at hM
  rw [htb] at hM
  have hp1 := hC.1 _ _ _ _ _ hy
  have hcnt := cnt_call hx hr.2.2.2.2.2.2.1 hp1 (hk _ _ _ g4)
  have es : (as.reverse ++ st).map (rv φ) = (as.map (rv φ)).reverse ++ st.map (rv φ) := by
    rw [List.map_append, List.map_reverse]
  rw [es]
  exact call_go hC.1 hy hx hr hl hvr.1 (va_runS ⟨hx.1.1, hx.1.2.1, hx.1.2.2.1, hx.1.2.2.2, hx.2.1⟩ hM (va_cwS n hx.2.1 (lw_S h1 h2 h4 h5) rfl rfl rfl hd2 (rm_ok hx hL2)) ⟨pc_blind, (pre_of hx hr hvr.2)⟩ rfl (by rw [List.length_map]; exact hlen) hl.1.1 rfl (lv_room (by rw [rv_w]; exact hw)) hd hcnt) (fun φ' H' locs' hr1 hl1 hv1 => kk φ' σ1 H' locs' ls lsA _ hr1 hl1 hv1 g4)
set_option maxHeartbeats 200000 in
theorem so_crSN (y n : Nat) {idx L2 : Nat} {yn : MethodName} {code2 : ByteArray} {rt : Option FieldType} {host : String} (hC : z_HC l G d tb C) (htb : tb y = (yn, code2, L2, rt)) (hL2 : L2 ≤ 180) (h1 : Cond.methodLinkNest own idx yn host ∈ lw_tbl) (h2 : Cond.static yn ∈ lw_all) (h4 : Cond.initialized yn.cls ∈ lw_all) (h5 : Cond.code yn code2 L2 rt ∈ lw_all) (hd2 : (yn.cls ≠ "java/lang/invoke/MethodHandle" ∧ yn.cls ≠ "java/lang/invoke/VarHandle" ∧ (parseMethodDescriptor yn.desc).map (fun d => d.parameters.length) = some n)) (hd : decode cc pc = .ok (.invokestatic idx, 3)) : z_SO own cc nL ini d G l C pc 3 (zo_crS y n) := by
  intro p e R s m args below meth c Q A φ0 σ0 σf r hx hi φ σ H locs ls lsA st hr hl hv k hk ho kk
  obtain ⟨as, st, rfl, hlen, g0⟩ := v_pA ho
  have hvr : z_vs σ lsA _ ∧ ∀ v ∈ as, z_vv σ v := ⟨(vs_rest hv).1, fun v hm => (vs_rest hv).2 v (List.mem_reverse.mpr hm)⟩
  obtain ⟨hw, g3⟩ := v_cw g0
  obtain ⟨σ1, vv, hy, g4⟩ := v_clr g3
  have hM := hC.2 y _ σ σ1 _ φ H.size hy
  unfold z_Met at hM
  rw [htb] at hM
  have hp1 := hC.1 _ _ _ _ _ hy
  have hcnt := cnt_call hx hr.2.2.2.2.2.2.1 hp1 (hk _ _ _ g4)
  have es : (as.reverse ++ st).map (rv φ) = (as.map (rv φ)).reverse ++ st.map (rv φ) := by
    rw [List.map_append, List.map_reverse]
  rw [es]
  exact call_go hC.1 hy hx hr hl hvr.1 (va_runSN ⟨hx.1.1, hx.1.2.1, hx.1.2.2.1, hx.1.2.2.2, hx.2.1⟩ hM ⟨va_cnB n hx.2.1 (lw_meth h5) rfl rfl rfl (hx.2.2.1 _ h1 rfl) (hx.2.1 _ h4) hd2 (rm_ok hx hL2), hx.2.1 _ h2, trivial⟩ ⟨pc_blind, (pre_of hx hr hvr.2)⟩ rfl (by rw [List.length_map]; exact hlen) hl.1.1 rfl (lv_room (by rw [rv_w]; exact hw)) hd hcnt) (fun φ' H' locs' hr1 hl1 hv1 => kk φ' σ1 H' locs' ls lsA _ hr1 hl1 hv1 g4)
end SNK
