/-! PART 07 (printed by wip/gen/gen07.py): arrays, constants, the script -/
theorem up_fit {f : Nat → Int32} {k : Nat} {x : Int32} (h : ∀ n, fits .byte (.int (f n)) = true) (hx : fits .byte (.int x) = true) (n : Nat) : fits .byte (.int (va_up f k x n)) = true := by
  unfold va_up
  split
  · exact hx
  · exact h n
theorem cpy_fit {f g : Nat → Int32} {a b k : Nat} (hf : ∀ n, fits .byte (.int (f n)) = true) (hg : ∀ n, fits .byte (.int (g n)) = true) (n : Nat) : fits .byte (.int (va_cpy f g a b k n)) = true := by
  unfold va_cpy
  split
  · exact hf _
  · exact hg n
theorem upd_eq (f : Nat → Int32) (k : Nat) (x : Int32) : upd f k x = va_up f k x := rfl
theorem updL_eq (f : Nat → Int64) (k : Nat) (x : Int64) : vp_updL f k x = va_up f k x := rfl
section SNH
variable {own : String} {cc : ByteArray} {nL d pc : Nat} {ini : Bool} {G : z_G} {l : Launch} {C : z_O} {φ : z_Ad → Nat} {σ : z_St} {q : z_Ad}
theorem ty_16 {a t : Nat} (h : aTy a = t) (ht : 16 ≤ t) : 16 ≤ a := by
  simp only [aTy] at h
  omega
theorem cell_A (h : 16 ≤ q.1) : z_cell G φ σ q = .inl (G.2.2.1 (aTy q.1), z_arr φ σ q) := by
  unfold z_cell
  rw [if_neg (by omega)]
theorem cell_I {t : Nat} (h : aTy q.1 = t) (h1 : 16 ≤ t) (h2 : t < 19) : z_cell G φ σ q = .inl (G.2.2.1 t, aLen q.1, .inl (gI σ q.1 q.2)) := by
  rw [cell_A (ty_16 h h1)]
  unfold z_arr
  rw [if_pos (by omega), h]
theorem cell_J (h : aTy q.1 = 19) : z_cell G φ σ q = .inl (G.2.2.1 19, aLen q.1, .inr (.inl (gJ σ q.1 q.2))) := by
  rw [cell_A (ty_16 h (by decide))]
  unfold z_arr
  rw [if_neg (by omega), if_pos h, h]
theorem cell_R {t : Nat} (h : aTy q.1 = t) (h1 : 20 ≤ t) : z_cell G φ σ q = .inl (G.2.2.1 t, aLen q.1, .inr (.inr (.inr (.inr fun i => (gR σ q.1 q.2 i).map φ)))) := by
  rw [cell_A (ty_16 h (by omega))]
  unfold z_arr
  rw [if_neg (by omega), if_neg (by omega), h]
theorem tys_R {t : Nat} (h1 : 20 ≤ t) (h2 : t ≤ 26) : ∃ E : String, (z_tys G)[t - 16]? = some (G.2.2.1 t, .object E) := by
  have h : t = 20 ∨ t = 21 ∨ t = 22 ∨ t = 23 ∨ t = 24 ∨ t = 25 ∨ t = 26 := by omega
  rcases h with h | h | h | h | h | h | h <;> subst h <;> exact ⟨_, rfl⟩
theorem tys_E {s : Nat} (h1 : 20 ≤ aTy s) (h2 : aTy s ≤ 25) : ∃ w : vw_C, z_CL[aEl s]? = some w ∧ (z_tys G)[aTy s - 16]? = some (G.2.2.1 (aTy s), .object w.1) ∧ aEl s < 11 := by
  have h : aTy s = 20 ∨ aTy s = 21 ∨ aTy s = 22 ∨ aTy s = 23 ∨ aTy s = 24 ∨ aTy s = 25 := by omega
  have e : aEl s = ([4, 9, 10, 5, 6, 7] : List Nat).getD (aTy s - 20) 99 := rfl
  rcases h with h | h | h | h | h | h <;> rw [e, h] <;> exact ⟨_, rfl, rfl, by decide⟩
theorem zin_vp {i : Int32} {n : Nat} (h : zin i n) : vp_in i n := h
theorem tys_P {t : Nat} (h1 : 16 ≤ t) (h2 : t ≤ 26) : ∃ E, (z_tys G)[t - 16]? = some (G.2.2.1 t, E) := by
  have h : t = 16 ∨ t = 17 ∨ t = 18 ∨ t = 19 ∨ t = 20 ∨ t = 21 ∨ t = 22 ∨ t = 23 ∨ t = 24 ∨ t = 25 ∨ t = 26 := by omega
  rcases h with h | h | h | h | h | h | h | h | h | h | h <;> subst h <;> exact ⟨_, rfl⟩

set_option maxHeartbeats 100000 in
theorem so_iaload (hd : decode cc pc = .ok (.iaload, 1)) : z_SO own cc nL ini d G l C pc 1 (zo_aldI 16) := by
  intro p e R s m args below meth c Q A φ0 σ0 σf r hx hi φ σ H locs ls lsA st hr hl hv k hk ho kk
  obtain ⟨i, st, rfl, h0⟩ := v_pI ho
  obtain ⟨q, st, rfl, h1⟩ := v_pD h0
  obtain ⟨ht, h2⟩ := v_ck h1
  obtain ⟨hin, h3⟩ := v_ck h2
  obtain ⟨j, hj, he⟩ := ws_at (G := G) (φ := φ) (val_al (vs_top (vs_pop hv) _ rfl) (Or.inr (ty_16 ht (by decide))))
  rw [cell_I ht (by decide) (by decide)] at he
  exact va_iald hx.1.1 hx.1.2.1 hx.2.2.2.1 hr.1 j 0 he rfl hin hd (kk φ σ H locs ls lsA _ hr hl (vs_psh (vs_pop (vs_pop hv)) (vv_I _ _)) h3)
set_option maxHeartbeats 100000 in
theorem so_baload (hd : decode cc pc = .ok (.baload, 1)) : z_SO own cc nL ini d G l C pc 1 (zo_aldI 17) := by
  intro p e R s m args below meth c Q A φ0 σ0 σf r hx hi φ σ H locs ls lsA st hr hl hv k hk ho kk
  obtain ⟨i, st, rfl, h0⟩ := v_pI ho
  obtain ⟨q, st, rfl, h1⟩ := v_pD h0
  obtain ⟨ht, h2⟩ := v_ck h1
  obtain ⟨hin, h3⟩ := v_ck h2
  obtain ⟨j, hj, he⟩ := ws_at (G := G) (φ := φ) (val_al (vs_top (vs_pop hv) _ rfl) (Or.inr (ty_16 ht (by decide))))
  rw [cell_I ht (by decide) (by decide)] at he
  exact va_bald hx.1.1 hx.1.2.1 hx.2.2.2.1 hr.1 j 1 he rfl hin hd (kk φ σ H locs ls lsA _ hr hl (vs_psh (vs_pop (vs_pop hv)) (vv_I _ _)) h3)
set_option maxHeartbeats 100000 in
theorem so_zaload (hd : decode cc pc = .ok (.baload, 1)) : z_SO own cc nL ini d G l C pc 1 (zo_aldI 18) := by
  intro p e R s m args below meth c Q A φ0 σ0 σf r hx hi φ σ H locs ls lsA st hr hl hv k hk ho kk
  obtain ⟨i, st, rfl, h0⟩ := v_pI ho
  obtain ⟨q, st, rfl, h1⟩ := v_pD h0
  obtain ⟨ht, h2⟩ := v_ck h1
  obtain ⟨hin, h3⟩ := v_ck h2
  obtain ⟨j, hj, he⟩ := ws_at (G := G) (φ := φ) (val_al (vs_top (vs_pop hv) _ rfl) (Or.inr (ty_16 ht (by decide))))
  rw [cell_I ht (by decide) (by decide)] at he
  exact va_zald hx.1.1 hx.1.2.1 hx.2.2.2.1 hr.1 j 2 he rfl hin hd (kk φ σ H locs ls lsA _ hr hl (vs_psh (vs_pop (vs_pop hv)) (vv_I _ _)) h3)
set_option maxHeartbeats 100000 in
theorem so_laload (hd : decode cc pc = .ok (.laload, 1)) : z_SO own cc nL ini d G l C pc 1 zo_aldJ := by
  intro p e R s m args below meth c Q A φ0 σ0 σf r hx hi φ σ H locs ls lsA st hr hl hv k hk ho kk
  obtain ⟨i, st, rfl, h0⟩ := v_pI ho
  obtain ⟨q, st, rfl, h1⟩ := v_pD h0
  obtain ⟨ht, h2⟩ := v_ck h1
  obtain ⟨hin, h3⟩ := v_ck h2
  obtain ⟨j, hj, he⟩ := ws_at (G := G) (φ := φ) (val_al (vs_top (vs_pop hv) _ rfl) (Or.inr (ty_16 ht (by decide))))
  rw [cell_J ht] at he
  exact va_lald hx.1.1 hx.1.2.1 hx.2.2.2.1 hr.1 j 3 he rfl hin hd (kk φ σ H locs ls lsA _ hr hl (vs_psh (vs_pop (vs_pop hv)) (vv_J _ _)) h3)
set_option maxHeartbeats 100000 in
theorem so_aaload (hd : decode cc pc = .ok (.aaload, 1)) : z_SO own cc nL ini d G l C pc 1 zo_aldR := by
  intro p e R s m args below meth c Q A φ0 σ0 σf r hx hi φ σ H locs ls lsA st hr hl hv k hk ho kk
  obtain ⟨i, st, rfl, h0⟩ := v_pI ho
  obtain ⟨q, st, rfl, h1⟩ := v_pD h0
  obtain ⟨ht, h2⟩ := v_ck h1
  obtain ⟨hin, h3⟩ := v_ck h2
  have h16 := ty_16 (a := q.1) rfl (Nat.le_trans (by decide) ht.1)
  have hal : q ∈ al σ := val_al (vs_top (vs_pop hv) _ rfl) (Or.inr h16)
  obtain ⟨j, hj, he⟩ := ws_at (G := G) (φ := φ) hal
  rw [cell_R rfl ht.1] at he
  obtain ⟨E, hE⟩ := tys_R (G := G) ht.1 ht.2
  exact va_aldq hx.1.1 hx.1.2.1 hx.2.2.2.1 hr.1 j _ he hE hin hd (kk φ σ H locs ls lsA _ hr hl (vs_psh (vs_pop (vs_pop hv)) (vv_r (fun z hz => hr.2.2.2.1.2.2.1 _ _ _ z (own_A h16 hal) hz))) h3)
set_option maxHeartbeats 100000 in
theorem so_iastore (hd : decode cc pc = .ok (.iastore, 1)) : z_SO own cc nL ini d G l C pc 1 zo_astI := by
  intro p e R s m args below meth c Q A φ0 σ0 σf r hx hi φ σ H locs ls lsA st hr hl hv k hk ho kk
  obtain ⟨x, st, rfl, h0⟩ := v_pI ho
  obtain ⟨i, st, rfl, h1⟩ := v_pI h0
  obtain ⟨q, st, rfl, h2⟩ := v_pD h1
  obtain ⟨ht, h3⟩ := v_ck h2
  obtain ⟨hin, h4⟩ := v_ck h3
  have h16 := ty_16 ht (by decide)
  obtain ⟨j, hj, he⟩ := ws_at (G := G) (φ := φ) (val_al (vs_top (vs_pop (vs_pop hv)) _ rfl) (Or.inr h16))
  rw [cell_I ht (by decide) (by decide)] at he
  refine va_iast hx.1.1 hx.1.2.1 hx.2.2.2.1 hr.1 hr.2.1 hr.2.2.1 j 0 he rfl hin hd (fun H1 locs1 hP hD hS => ?_)
  have ee : z_cell G φ (rI σ q.1 q.2 (va_up (gI σ q.1 q.2) i.toNatClampNeg x)) q = _ := cell_I ht (by decide) (by decide)
  rw [gI_self] at ee
  rw [upd_eq, ← ee] at hP hD
  have h4 : k lsA st (rI σ q.1 q.2 (va_up (gI σ q.1 q.2) i.toNatClampNeg x)) = some (σf, r) := h4
  exact kk φ (rI σ q.1 q.2 (va_up (gI σ q.1 q.2) i.toNatClampNeg x)) H1 locs1 ls lsA st (rel_put hr (only_aI h16) hj (ok_rI hr.2.2.2.1 (fun h => absurd h (by rw [ht]; decide))) hP hD hS) hl (vs_pop (vs_pop (vs_pop hv))) h4
set_option maxHeartbeats 100000 in
theorem so_bastore (hd : decode cc pc = .ok (.bastore, 1)) : z_SO own cc nL ini d G l C pc 1 zo_astB := by
  intro p e R s m args below meth c Q A φ0 σ0 σf r hx hi φ σ H locs ls lsA st hr hl hv k hk ho kk
  obtain ⟨x, st, rfl, h0⟩ := v_pI ho
  obtain ⟨i, st, rfl, h1⟩ := v_pI h0
  obtain ⟨q, st, rfl, h2⟩ := v_pD h1
  obtain ⟨ht, h3⟩ := v_ck h2
  obtain ⟨hin, h4⟩ := v_ck h3
  have h16 := ty_16 ht (by decide)
  obtain ⟨j, hj, he⟩ := ws_at (G := G) (φ := φ) (val_al (vs_top (vs_pop (vs_pop hv)) _ rfl) (Or.inr h16))
  rw [cell_I ht (by decide) (by decide)] at he
  refine va_bast hx.1.1 hx.1.2.1 hx.2.2.2.1 hr.1 hr.2.1 hr.2.2.1 j 1 he rfl hin hd (fun H1 locs1 hP hD hS => ?_)
  have ee : z_cell G φ (rI σ q.1 q.2 (va_up (gI σ q.1 q.2) i.toNatClampNeg x.toInt8.toInt32)) q = _ := cell_I ht (by decide) (by decide)
  rw [gI_self] at ee
  rw [upd_eq, vp_nar_byte, ← ee] at hP hD
  have h4 : k lsA st (rI σ q.1 q.2 (va_up (gI σ q.1 q.2) i.toNatClampNeg x.toInt8.toInt32)) = some (σf, r) := h4
  exact kk φ (rI σ q.1 q.2 (va_up (gI σ q.1 q.2) i.toNatClampNeg x.toInt8.toInt32)) H1 locs1 ls lsA st (rel_put hr (only_aI h16) hj (ok_rI hr.2.2.2.1 (fun _ => up_fit (fun n => hr.2.2.2.1.2.2.2 _ _ n ht) (pk_fb x))) hP hD hS) hl (vs_pop (vs_pop (vs_pop hv))) h4
set_option maxHeartbeats 100000 in
theorem so_zastore (hd : decode cc pc = .ok (.bastore, 1)) : z_SO own cc nL ini d G l C pc 1 zo_astZ := by
  intro p e R s m args below meth c Q A φ0 σ0 σf r hx hi φ σ H locs ls lsA st hr hl hv k hk ho kk
  obtain ⟨x, st, rfl, h0⟩ := v_pI ho
  obtain ⟨i, st, rfl, h1⟩ := v_pI h0
  obtain ⟨q, st, rfl, h2⟩ := v_pD h1
  obtain ⟨ht, h3⟩ := v_ck h2
  obtain ⟨hin, h4⟩ := v_ck h3
  have h16 := ty_16 ht (by decide)
  obtain ⟨j, hj, he⟩ := ws_at (G := G) (φ := φ) (val_al (vs_top (vs_pop (vs_pop hv)) _ rfl) (Or.inr h16))
  rw [cell_I ht (by decide) (by decide)] at he
  refine va_zast hx.1.1 hx.1.2.1 hx.2.2.2.1 hr.1 hr.2.1 hr.2.2.1 j 2 he rfl hin hd (fun H1 locs1 hP hD hS => ?_)
  have ee : z_cell G φ (rI σ q.1 q.2 (va_up (gI σ q.1 q.2) i.toNatClampNeg (vp_nar .boolean x))) q = _ := cell_I ht (by decide) (by decide)
  rw [gI_self] at ee
  rw [upd_eq, ← ee] at hP hD
  have h4 : k lsA st (rI σ q.1 q.2 (va_up (gI σ q.1 q.2) i.toNatClampNeg (vp_nar .boolean x))) = some (σf, r) := h4
  exact kk φ (rI σ q.1 q.2 (va_up (gI σ q.1 q.2) i.toNatClampNeg (vp_nar .boolean x))) H1 locs1 ls lsA st (rel_put hr (only_aI h16) hj (ok_rI hr.2.2.2.1 (fun h => absurd h (by rw [ht]; decide))) hP hD hS) hl (vs_pop (vs_pop (vs_pop hv))) h4
set_option maxHeartbeats 100000 in
theorem so_lastore (hd : decode cc pc = .ok (.lastore, 1)) : z_SO own cc nL ini d G l C pc 1 zo_astJ := by
  intro p e R s m args below meth c Q A φ0 σ0 σf r hx hi φ σ H locs ls lsA st hr hl hv k hk ho kk
  obtain ⟨x, st, rfl, h0⟩ := v_pJ ho
  obtain ⟨i, st, rfl, h1⟩ := v_pI h0
  obtain ⟨q, st, rfl, h2⟩ := v_pD h1
  obtain ⟨ht, h3⟩ := v_ck h2
  obtain ⟨hin, h4⟩ := v_ck h3
  have h16 := ty_16 ht (by decide)
  obtain ⟨j, hj, he⟩ := ws_at (G := G) (φ := φ) (val_al (vs_top (vs_pop (vs_pop hv)) _ rfl) (Or.inr h16))
  rw [cell_J ht] at he
  refine va_last hx.1.1 hx.1.2.1 hx.2.2.2.1 hr.1 hr.2.1 hr.2.2.1 j 3 he rfl hin hd (fun H1 locs1 hP hD hS => ?_)
  have ee : z_cell G φ (rJ σ q.1 q.2 (va_up (gJ σ q.1 q.2) i.toNatClampNeg x)) q = _ := cell_J ht
  rw [gJ_self] at ee
  rw [updL_eq, ← ee] at hP hD
  have h4 : k lsA st (rJ σ q.1 q.2 (va_up (gJ σ q.1 q.2) i.toNatClampNeg x)) = some (σf, r) := h4
  exact kk φ (rJ σ q.1 q.2 (va_up (gJ σ q.1 q.2) i.toNatClampNeg x)) H1 locs1 ls lsA st (rel_put hr (only_aJ h16) hj (ok_rJ hr.2.2.2.1) hP hD hS) hl (vs_pop (vs_pop (vs_pop hv))) h4
set_option maxHeartbeats 100000 in
theorem so_aastore (hd : decode cc pc = .ok (.aastore, 1)) : z_SO own cc nL ini d G l C pc 1 zo_astR := by
  intro p e R s m args below meth c Q A φ0 σ0 σf r hx hi φ σ H locs ls lsA st hr hl hv k hk ho kk
  obtain ⟨v, st, rfl, h0⟩ := v_pD ho
  obtain ⟨i, st, rfl, h1⟩ := v_pI h0
  obtain ⟨q, st, rfl, h2⟩ := v_pD h1
  obtain ⟨ht, h3⟩ := v_ck h2
  obtain ⟨hin, h4⟩ := v_ck h3
  have h16 := ty_16 (a := q.1) rfl (Nat.le_trans (by decide) ht.1)
  obtain ⟨w, hw, hE, hlt⟩ := tys_E (G := G) ht.1 ht.2.1
  obtain ⟨j, hj, he⟩ := ws_at (G := G) (φ := φ) (val_al (vs_top (vs_pop (vs_pop hv)) _ rfl) (Or.inr h16))
  obtain ⟨jv, hjv, hev⟩ := ws_at (G := G) (φ := φ) (val_al (q := v) (vs_top hv _ rfl) (Or.inl (by rw [ht.2.2]; omega)))
  rw [cell_R rfl ht.1] at he
  rw [show v = (v.1, v.2) from rfl, cell_O (by rw [ht.2.2]; exact hlt)] at hev
  refine va_astq hx.1.1 hx.1.2.1 hx.2.2.2.1 hr.1 hr.2.1 hr.2.2.1 j _ jv v.1 he hE hev (by rw [ht.2.2]; exact hw) hin hd (fun H1 locs1 hP hD hS => ?_)
  have ee : z_cell G φ (rR σ q.1 q.2 (va_up (gR σ q.1 q.2) i.toNatClampNeg (some v))) q = _ := cell_R rfl ht.1
  rw [gR_self] at ee
  have e2 : (fun i_1 => Option.map φ (va_up (gR σ q.1 q.2) i.toNatClampNeg (some v) i_1)) = va_up (fun i => (gR σ q.1 q.2 i).map φ) i.toNatClampNeg (some (φ v)) := by
    funext z
    unfold va_up
    split <;> rfl
  rw [e2] at ee
  rw [← ee] at hP hD
  have h4 : k lsA st (rR σ q.1 q.2 (va_up (gR σ q.1 q.2) i.toNatClampNeg (some v))) = some (σf, r) := h4
  have hok : z_ok (rR σ q.1 q.2 (va_up (gR σ q.1 q.2) i.toNatClampNeg (some v))) := ok_rR hr.2.2.2.1 (up_val (fun z w ho hw => hr.2.2.2.1.2.2.1 q.1 q.2 z w ho hw) (fun w hw => vs_top hv w (by rw [hw])))
  exact kk φ (rR σ q.1 q.2 (va_up (gR σ q.1 q.2) i.toNatClampNeg (some v))) H1 locs1 ls lsA st (rel_put hr (only_aR h16) hj hok hP hD hS) hl (vs_pop (vs_pop (vs_pop hv))) h4
set_option maxHeartbeats 100000 in
theorem so_len (hd : decode cc pc = .ok (.arraylength, 1)) : z_SO own cc nL ini d G l C pc 1 zo_len := by
  intro p e R s m args below meth c Q A φ0 σ0 σf r hx hi φ σ H locs ls lsA st hr hl hv k hk ho kk
  obtain ⟨q, st, rfl, h1⟩ := v_pD ho
  obtain ⟨ht, h2⟩ := v_ck h1
  obtain ⟨j, hj, he⟩ := ws_at (G := G) (φ := φ) (val_al (vs_top hv _ rfl) (Or.inr (ty_16 rfl ht.1)))
  rw [cell_A (ty_16 rfl ht.1)] at he
  obtain ⟨E, hE⟩ := tys_P (G := G) ht.1 ht.2
  exact va_alen hx.1.1 hx.1.2.1 hx.2.2.2.1 hr.1 j _ he hE rfl hd (kk φ σ H locs ls lsA _ hr hl (vs_psh (vs_pop hv) (vv_I _ _)) h2)
/-! constants and their rows -/
theorem z_getXN {p : Program} {e : Env} {R : Room} {s : State} {m : MethodId} {args : Array Value} {below : List Frame} {meth : Method} {c : Code} {H : Heap} {locs : List Loc} {cells slots : Nat} {Q : State → Prop} {A : Nat → Prop} {ls : Array Slot} {rest : List Value} (hexec : p.tables.exec = Jvm.exec) (hb : c.code = cc) {o n dd ref host : String} {N : Nat} {v : Nat → Value} {ad : Nat → Nat} {index i : Nat} (hE : va_Ef N o n dd v ad A s s.heap) (hi : i < N) (hS : va_S A s.heap H locs) (hown : s.vm.findClass own = some m.cls) (hlink : (Cond.fieldLinkNest own index ref n dd host).before args s = true) (hsame : ∀ x, s.fieldFound? o n dd = some x → s.fieldFound? ref n dd = some x) (hdg : decode cc pc = .ok (.getfield index, 3))
    (kk : W p l e R s m args below meth c H locs cells slots Q (F0 m (pc + 3) ls (v i :: rest))) : W p l e R s m args below meth c H locs cells slots Q (F0 m pc ls (.ref (ad i) :: rest)) := by
  obtain ⟨cf, k, fi, f, cell, h1, h2, h3, h4, h5, h6⟩ := (hE i hi).kept hS.2.1
  exact va_Wgetf hexec hb hown hlink (hsame _ h1) h2 h3 h4 (v := v i) h5 rfl rfl hdg kk
set_option maxHeartbeats 100000 in
theorem so_Ccode {idx : Nat} {host : String} (hlink : Cond.fieldLinkNest own idx "QuotaPeers$Command" "code" "I" host ∈ lw_tbl) (hd : decode cc pc = .ok (.getfield idx, 3)) : z_SO own cc nL ini d G l C pc 3 (zo_gC z_codes) := by
  intro p e R s m args below meth c Q A φ0 σ0 σf r hx hi φ σ H locs ls lsA st hr hl hv k hk ho kk
  obtain ⟨q, st, rfl, h1⟩ := v_pD ho
  obtain ⟨hq, h2⟩ := v_ck h1
  obtain ⟨qa, n⟩ := q
  obtain ⟨hqa, hn⟩ := hq
  have hqa : qa = 12 := hqa
  subst hqa
  have hn : n < 5 := hn
  have ee : φ (12, n) = G.2.2.2 (12, n) := hr.2.2.2.2.1 (12, n) (Nat.le_refl 12) (show 12 ≤ 15 by decide)
  have kk := kk φ σ H locs ls lsA _ hr hl (vs_psh (vs_pop hv) (vv_I _ _)) h2
  show z_WW p l e R s m args below meth c Q σ0 σ H locs (F0 m pc ls (.ref (φ (12, n)) :: st.map (rv φ)))
  rw [ee]
  exact z_getXN (ad := fun i => G.2.2.2 (12, i)) hx.1.1 hx.1.2.1 (hr.2.2.2.2.2.1.2.2.1) hn hr.2.2.1 hx.1.2.2.2 (va_Nw.use rfl (hx.2.2.1 _ hlink rfl)) (fun x h => h) hd kk
set_option maxHeartbeats 100000 in
theorem so_Capp {idx : Nat} {host : String} (hlink : Cond.fieldLinkNest own idx "QuotaPeers$Command" "application" "I" host ∈ lw_tbl) (hd : decode cc pc = .ok (.getfield idx, 3)) : z_SO own cc nL ini d G l C pc 3 (zo_gC z_apps) := by
  intro p e R s m args below meth c Q A φ0 σ0 σf r hx hi φ σ H locs ls lsA st hr hl hv k hk ho kk
  obtain ⟨q, st, rfl, h1⟩ := v_pD ho
  obtain ⟨hq, h2⟩ := v_ck h1
  obtain ⟨qa, n⟩ := q
  obtain ⟨hqa, hn⟩ := hq
  have hqa : qa = 12 := hqa
  subst hqa
  have hn : n < 5 := hn
  have ee : φ (12, n) = G.2.2.2 (12, n) := hr.2.2.2.2.1 (12, n) (Nat.le_refl 12) (show 12 ≤ 15 by decide)
  have kk := kk φ σ H locs ls lsA _ hr hl (vs_psh (vs_pop hv) (vv_I _ _)) h2
  show z_WW p l e R s m args below meth c Q σ0 σ H locs (F0 m pc ls (.ref (φ (12, n)) :: st.map (rv φ)))
  rw [ee]
  exact z_getXN (ad := fun i => G.2.2.2 (12, i)) hx.1.1 hx.1.2.1 (hr.2.2.2.2.2.1.2.2.2.1) hn hr.2.2.1 hx.1.2.2.2 (va_Nw.use rfl (hx.2.2.1 _ hlink rfl)) (fun x h => h) hd kk
set_option maxHeartbeats 100000 in
theorem so_Cwants {idx : Nat} {host : String} (hlink : Cond.fieldLinkNest own idx "QuotaPeers$Command" "wants" "[I" host ∈ lw_tbl) (hd : decode cc pc = .ok (.getfield idx, 3)) : z_SO own cc nL ini d G l C pc 3 zo_gW := by
  intro p e R s m args below meth c Q A φ0 σ0 σf r hx hi φ σ H locs ls lsA st hr hl hv k hk ho kk
  obtain ⟨q, st, rfl, h1⟩ := v_pD ho
  obtain ⟨hq, h2⟩ := v_ck h1
  obtain ⟨qa, n⟩ := q
  obtain ⟨hqa, hn⟩ := hq
  have hqa : qa = 12 := hqa
  subst hqa
  have hn : n < 5 := hn
  have ee : φ (12, n) = G.2.2.2 (12, n) := hr.2.2.2.2.1 (12, n) (Nat.le_refl 12) (show 12 ≤ 15 by decide)
  have kk := kk φ σ H locs ls lsA _ hr hl (vs_psh (vs_pop hv) (vv_R (Or.inr ⟨show 12 ≤ 13 by decide, show 13 ≤ 15 by decide⟩))) h2
  show z_WW p l e R s m args below meth c Q σ0 σ H locs (F0 m pc ls (.ref (φ (12, n)) :: st.map (rv φ)))
  rw [ee]
  have e2 : φ (13, n) = G.2.2.2 (13, n) := hr.2.2.2.2.1 (13, n) (show 12 ≤ 13 by decide) (show 13 ≤ 15 by decide)
  have kk : z_WW p l e R s m args below meth c Q σ0 σ H locs (F0 m (pc + 3) ls (.ref (φ (13, n)) :: st.map (rv φ))) := kk
  rw [e2] at kk
  exact z_getXN (ad := fun i => G.2.2.2 (12, i)) hx.1.1 hx.1.2.1 (hr.2.2.2.2.2.1.2.2.2.2.1) hn hr.2.2.1 hx.1.2.2.2 (va_Nw.use rfl (hx.2.2.1 _ hlink rfl)) (fun x h => h) hd kk
set_option maxHeartbeats 100000 in
theorem so_aldW (hd : decode cc pc = .ok (.iaload, 1)) : z_SO own cc nL ini d G l C pc 1 zo_aldW := by
  intro p e R s m args below meth c Q A φ0 σ0 σf r hx hi φ σ H locs ls lsA st hr hl hv k hk ho kk
  obtain ⟨i, st, rfl, h0⟩ := v_pI ho
  obtain ⟨q, st, rfl, h1⟩ := v_pD h0
  obtain ⟨hq, h2⟩ := v_ck h1
  obtain ⟨hin, h3⟩ := v_ck h2
  obtain ⟨qa, n⟩ := q
  obtain ⟨hqa, hn⟩ := hq
  have hqa : qa = 13 := hqa
  subst hqa
  have hn : n < 5 := hn
  have ee : φ (13, n) = G.2.2.2 (13, n) := hr.2.2.2.2.1 (13, n) (show 12 ≤ 13 by decide) (show 13 ≤ 15 by decide)
  have kk := kk φ σ H locs ls lsA _ hr hl (vs_psh (vs_pop (vs_pop hv)) (vv_I _ _)) h3
  show z_WW p l e R s m args below meth c Q σ0 σ H locs (F0 m pc ls (.int i :: .ref (φ (13, n)) :: st.map (rv φ)))
  rw [ee]
  exact va_ti hx.1.1 hx.1.2.1 (hr.2.2.2.2.2.1.2.2.2.2.2.1 n hn) hr.2.2.1 hin rfl hd kk
set_option maxHeartbeats 100000 in
theorem so_lenW (hd : decode cc pc = .ok (.arraylength, 1)) : z_SO own cc nL ini d G l C pc 1 zo_lenW := by
  intro p e R s m args below meth c Q A φ0 σ0 σf r hx hi φ σ H locs ls lsA st hr hl hv k hk ho kk
  obtain ⟨q, st, rfl, h1⟩ := v_pD ho
  obtain ⟨hq, h2⟩ := v_ck h1
  obtain ⟨qa, n⟩ := q
  obtain ⟨hqa, hn⟩ := hq
  have hqa : qa = 13 := hqa
  subst hqa
  have hn : n < 5 := hn
  have ee : φ (13, n) = G.2.2.2 (13, n) := hr.2.2.2.2.1 (13, n) (show 12 ≤ 13 by decide) (show 13 ≤ 15 by decide)
  have kk := kk φ σ H locs ls lsA _ hr hl (vs_psh (vs_pop hv) (vv_I _ _)) h2
  show z_WW p l e R s m args below meth c Q σ0 σ H locs (F0 m pc ls (.ref (φ (13, n)) :: st.map (rv φ)))
  rw [ee]
  exact va_tlen hx.1.1 hx.1.2.1 (hr.2.2.2.2.2.1.2.2.2.2.2.1 n hn) hr.2.2.1 rfl hd kk
set_option maxHeartbeats 100000 in
theorem so_ANS {idx : Nat} (hlink : Cond.fieldLink own idx "QuotaPeers$Command" "ANSWERS" "LQuotaPeers$Command;" ∈ lw_all) (hd : decode cc pc = .ok (.getstatic idx, 3)) : z_SO own cc nL ini d G l C pc 3 (zo_stC 4) := by
  intro p e R s m args below meth c Q A φ0 σ0 σf r hx hi φ σ H locs ls lsA st hr hl hv k hk ho kk
  have ee : φ (12, 4) = G.2.2.2 (12, 4) := hr.2.2.2.2.1 (12, 4) (by decide) (by decide)
  have kk := kk φ σ H locs ls lsA _ hr hl (vs_psh hv (vv_R (Or.inr ⟨by decide, by decide⟩))) ho
  have kk : z_WW p l e R s m args below meth c Q σ0 σ H locs (F0 m (pc + 3) ls (.ref (φ (12, 4)) :: st.map (rv φ))) := kk
  rw [ee] at kk
  exact va_gets hx.1.1 hx.1.2.1 hr.2.2.2.2.2.1.2.1 hr.2.2.1 hx.1.2.2.2 (hx.2.1 _ hlink) (fun x h => h) hd kk
/-! the script -/
set_option maxHeartbeats 100000 in
theorem so_sld (hd : decode cc pc = .ok (.iaload, 1)) : z_SO own cc nL ini d G l C pc 1 zo_sld := by
  intro p e R s m args below meth c Q A φ0 σ0 σf r hx hi φ σ H locs ls lsA st hr hl hv k hk ho kk
  obtain ⟨i, st, rfl, h0⟩ := v_pI ho
  obtain ⟨q, st, rfl, h1⟩ := v_pD h0
  obtain ⟨hq, h2⟩ := v_ck h1
  obtain ⟨hin, h3⟩ := v_ck h2
  subst hq
  have ee : φ (14, 0) = G.2.2.2 (14, 0) := hr.2.2.2.2.1 (14, 0) (by decide) (by decide)
  have kk := kk φ σ H locs ls lsA _ hr hl (vs_psh (vs_pop (vs_pop hv)) (vv_I _ _)) h3
  show z_WW p l e R s m args below meth c Q σ0 σ H locs (F0 m pc ls (.int i :: .ref (φ (14, 0)) :: st.map (rv φ)))
  rw [ee]
  exact va_sld hx.1.1 hx.1.2.1 hr.2.2.2.2.2.1.1.1 hr.2.2.2.2.2.1.1.2.1 hr.2.2.2.2.2.1.1.2.2 hr.2.2.1 hin hd kk
set_option maxHeartbeats 100000 in
theorem so_slen (hd : decode cc pc = .ok (.arraylength, 1)) : z_SO own cc nL ini d G l C pc 1 zo_slen := by
  intro p e R s m args below meth c Q A φ0 σ0 σf r hx hi φ σ H locs ls lsA st hr hl hv k hk ho kk
  obtain ⟨q, st, rfl, h1⟩ := v_pD ho
  obtain ⟨hq, h2⟩ := v_ck h1
  subst hq
  have ee : φ (14, 0) = G.2.2.2 (14, 0) := hr.2.2.2.2.1 (14, 0) (by decide) (by decide)
  have kk := kk φ σ H locs ls lsA _ hr hl (vs_psh (vs_pop hv) (vv_I _ _)) h2
  show z_WW p l e R s m args below meth c Q σ0 σ H locs (F0 m pc ls (.ref (φ (14, 0)) :: st.map (rv φ)))
  rw [ee]
  exact va_slen hx.1.1 hx.1.2.1 hr.2.2.2.2.2.1.1.1 hr.2.2.2.2.2.1.1.2.1 hr.2.2.2.2.2.1.1.2.2 hr.2.2.1 hd kk
/-! arraycopy, Math.max and min, Object() -/
set_option maxHeartbeats 100000 in
theorem so_copy {idx : Nat} (h1 : Cond.methodLink own idx arraycopyName ∈ lw_all) (h2 : Cond.native arraycopyName ∈ lw_all) (h3 : Cond.static arraycopyName ∈ lw_all) (h4 : Cond.initialized "java/lang/System" ∈ lw_all) (hd : decode cc pc = .ok (.invokestatic idx, 3)) : z_SO own cc nL ini d G l C pc 3 zo_copy := by
  intro p e R s m args below meth c Q A φ0 σ0 σf r hx hi φ σ H locs ls lsA st hr hl hv k hk ho kk
  obtain ⟨n, st, rfl, g0⟩ := v_pI ho
  obtain ⟨dp, st, rfl, g1⟩ := v_pI g0
  obtain ⟨dq, st, rfl, g2⟩ := v_pD g1
  obtain ⟨sp, st, rfl, g3⟩ := v_pI g2
  obtain ⟨q, st, rfl, g4⟩ := v_pD g3
  obtain ⟨ht, g5⟩ := v_ck g4
  obtain ⟨hb, g6⟩ := v_ck g5
  obtain ⟨hw, g7⟩ := v_cw g6
  have q16 := ty_16 ht.1 (by decide)
  have d16 := ty_16 ht.2 (by decide)
  obtain ⟨j0, hj0, he0⟩ := ws_at (G := G) (φ := φ) (val_al (q := q) (vs_top (vs_pop (vs_pop (vs_pop (vs_pop hv)))) _ rfl) (Or.inr q16))
  obtain ⟨j1, hj1, he1⟩ := ws_at (G := G) (φ := φ) (val_al (q := dq) (vs_top (vs_pop (vs_pop hv)) _ rfl) (Or.inr d16))
  rw [cell_I ht.1 (by decide) (by decide)] at he0
  rw [cell_I ht.2 (by decide) (by decide)] at he1
  have hfr : 1 ≤ R.frames := Nat.le_trans (Nat.le_add_left 1 d) hx.2.2.2.2.2.1.1
  have hlo : (((st.map (rv φ)).map fun v => v.category).sum + (nativeFrameWords "java/lang/System" "arraycopy" 5 + 11)) ≤ R.locals := by
    rw [rv_w]
    refine Nat.le_trans (Nat.add_le_add hw (show nativeFrameWords "java/lang/System" "arraycopy" 5 + 11 ≤ 192 by decide +kernel)) (Nat.le_trans ?_ hx.2.2.2.2.2.1.2)
    omega
  refine va_copyi hx.1.1 hx.1.2.1 (by rw [hx.1.2.2.1]; exact hl.1.1.symm) hx.1.2.2.2 (hx.2.1 _ h1) (hx.2.1 _ h2) (hx.2.1 _ h3) (hx.2.1 _ h4) hx.2.2.2.1 hr.1 hr.2.1 hr.2.2.1 j0 j1 1 1 (ty := .byte) he0 he1 rfl rfl rfl hb.1 hb.2.1 hb.2.2.1 hb.2.2.2.1 hb.2.2.2.2 (fun i _ => hr.2.2.2.1.2.2.2 _ _ _ ht.1) hfr hlo hd (fun H1 locs1 hP hD hS => ?_)
  have ee : z_cell G φ (rI σ dq.1 dq.2 (va_cpy (gI σ q.1 q.2) (gI σ dq.1 dq.2) sp.toNatClampNeg dp.toNatClampNeg n.toNatClampNeg)) dq = _ := cell_I ht.2 (by decide) (by decide)
  rw [gI_self] at ee
  rw [← ee] at hP hD
  have g7 : k lsA st (rI σ dq.1 dq.2 (va_cpy (gI σ q.1 q.2) (gI σ dq.1 dq.2) sp.toNatClampNeg dp.toNatClampNeg n.toNatClampNeg)) = some (σf, r) := g7
  exact kk φ (rI σ dq.1 dq.2 (va_cpy (gI σ q.1 q.2) (gI σ dq.1 dq.2) sp.toNatClampNeg dp.toNatClampNeg n.toNatClampNeg)) H1 locs1 ls lsA st (rel_put hr (only_aI d16) hj1 (ok_rI hr.2.2.2.1 (fun _ => cpy_fit (fun n => hr.2.2.2.1.2.2.2 _ _ n ht.1) (fun n => hr.2.2.2.1.2.2.2 _ _ n ht.2))) hP hD hS) hl (vs_pop (vs_pop (vs_pop (vs_pop (vs_pop hv))))) g7
set_option maxHeartbeats 100000 in
theorem so_maxJ {idx : Nat} (h1 : Cond.methodLink own idx Lib.MathLoose.max_long.x ∈ lw_all) (h2 : Cond.static Lib.MathLoose.max_long.x ∈ lw_all) (h3 : Cond.initialized "java/lang/Math" ∈ lw_all) (h4 : Cond.code Lib.MathLoose.max_long.x Lib.MathLoose.max_long.code 4 (some .long) ∈ lw_all) (hd : decode cc pc = .ok (.invokestatic idx, 3)) : z_SO own cc nL ini d G l C pc 3 zo_maxJ := by
  intro p e R s m args below meth c Q A φ0 σ0 σf r hx hi φ σ H locs ls lsA st hr hl hv k hk ho kk
  obtain ⟨y, st, rfl, g0⟩ := v_pJ ho
  obtain ⟨x, st, rfl, g1⟩ := v_pJ g0
  obtain ⟨hw, g2⟩ := v_cw g1
  have hfr : 1 ≤ R.frames := Nat.le_trans (Nat.le_add_left 1 d) hx.2.2.2.2.2.1.1
  have hlo : ((st.map (rv φ)).map fun v => v.category).sum + 15 ≤ R.locals := by
    rw [rv_w]
    refine Nat.le_trans ?_ hx.2.2.2.2.2.1.2
    omega
  have hpre := hk _ _ _ g2
  have hc := sl_pre hpre
  exact va_mmax_long hx.1.1 hx.1.2.1 (by rw [hx.1.2.2.1]; exact hl.1.1.symm) hx.1.2.2.2 (hx.2.1 _ h1) (hx.2.1 _ h2) (hx.2.1 _ h3) (hx.2.1 _ h4) hfr hlo (Nat.le_trans (Nat.sub_le_sub_right hc.1 _) hx.2.2.2.2.2.2.1) (Nat.le_trans (Nat.sub_le_sub_right hc.2 _) hx.2.2.2.2.2.2.2) hd (kk φ σ H locs ls lsA _ hr hl (vs_psh (vs_pop (vs_pop hv)) (vv_J _ _)) g2)
set_option maxHeartbeats 100000 in
theorem so_minJ {idx : Nat} (h1 : Cond.methodLink own idx Lib.MathLoose.min_long.x ∈ lw_all) (h2 : Cond.static Lib.MathLoose.min_long.x ∈ lw_all) (h3 : Cond.initialized "java/lang/Math" ∈ lw_all) (h4 : Cond.code Lib.MathLoose.min_long.x Lib.MathLoose.min_long.code 4 (some .long) ∈ lw_all) (hd : decode cc pc = .ok (.invokestatic idx, 3)) : z_SO own cc nL ini d G l C pc 3 zo_minJ := by
  intro p e R s m args below meth c Q A φ0 σ0 σf r hx hi φ σ H locs ls lsA st hr hl hv k hk ho kk
  obtain ⟨y, st, rfl, g0⟩ := v_pJ ho
  obtain ⟨x, st, rfl, g1⟩ := v_pJ g0
  obtain ⟨hw, g2⟩ := v_cw g1
  have hfr : 1 ≤ R.frames := Nat.le_trans (Nat.le_add_left 1 d) hx.2.2.2.2.2.1.1
  have hlo : ((st.map (rv φ)).map fun v => v.category).sum + 15 ≤ R.locals := by
    rw [rv_w]
    refine Nat.le_trans ?_ hx.2.2.2.2.2.1.2
    omega
  have hpre := hk _ _ _ g2
  have hc := sl_pre hpre
  exact va_mmin_long hx.1.1 hx.1.2.1 (by rw [hx.1.2.2.1]; exact hl.1.1.symm) hx.1.2.2.2 (hx.2.1 _ h1) (hx.2.1 _ h2) (hx.2.1 _ h3) (hx.2.1 _ h4) hfr hlo (Nat.le_trans (Nat.sub_le_sub_right hc.1 _) hx.2.2.2.2.2.2.1) (Nat.le_trans (Nat.sub_le_sub_right hc.2 _) hx.2.2.2.2.2.2.2) hd (kk φ σ H locs ls lsA _ hr hl (vs_psh (vs_pop (vs_pop hv)) (vv_J _ _)) g2)
set_option maxHeartbeats 100000 in
theorem so_obj {idx : Nat} (h1 : Cond.methodLink own idx objectInit ∈ lw_all) (h2 : Cond.instanceMethod objectInit ∈ lw_all) (h3 : Cond.code objectInit ⟨#[0xb1]⟩ 1 none ∈ lw_all) (hd : decode cc pc = .ok (.invokespecial idx, 3)) : z_SO own cc nL ini d G l C pc 3 zo_obj := by
  intro p e R s m args below meth c Q A φ0 σ0 σf r hx hi φ σ H locs ls lsA st hr hl hv k hk ho kk
  obtain ⟨q, st, rfl, g0⟩ := v_pD ho
  obtain ⟨hw, g1⟩ := v_cw g0
  have hfr : 1 ≤ R.frames := Nat.le_trans (Nat.le_add_left 1 d) hx.2.2.2.2.2.1.1
  have hlo : 2 * (F0 m pc ls (.ref (φ q) :: st.map (rv φ))).monitorRoom + ((st.map (rv φ)).map fun v => v.category).sum + 12 ≤ R.locals := by
    have ee := lv_room (m := m) (pc := pc) (ls := ls) (rest := .ref (φ q) :: st.map (rv φ)) (st := st.map (rv φ)) (by rw [rv_w]; exact hw)
    refine Nat.le_trans (Nat.add_le_add_right ee 12) (Nat.le_trans ?_ hx.2.2.2.2.2.1.2)
    omega
  exact W.objInit hx.1.1 hx.1.2.1 hx.1.2.2.2 (hx.2.1 _ h1) (hx.2.1 _ h2) (hx.2.1 _ h3) rfl (by rw [hx.1.2.2.1]; exact hl.1.1) rfl hd hfr hlo (kk φ σ H locs ls lsA _ hr hl (vs_pop hv) g1)
end SNH
