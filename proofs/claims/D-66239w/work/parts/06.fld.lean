/-! PART 06 (printed by wip/gen/gen06.py): fields and arrays -/
theorem fv_0 {φ : z_Ad → Nat} {σ : z_St} {a b n : Nat} (h : fTy a b = 0) : z_fv φ σ a b n = .int (gI σ a b n) := by unfold z_fv; rw [h]; rfl
theorem fv_1 {φ : z_Ad → Nat} {σ : z_St} {a b n : Nat} (h : fTy a b = 1) : z_fv φ σ a b n = .long (gJ σ a b n) := by unfold z_fv; rw [h]; rfl
theorem fv_2 {φ : z_Ad → Nat} {σ : z_St} {a b n : Nat} (h : fTy a b = 2) : z_fv φ σ a b n = va_rf ((gR σ a b n).map φ) := by unfold z_fv; rw [h]; rfl
theorem gI_self (σ : z_St) (a b : Nat) (r : Nat → Int32) : gI (rI σ a b r) a b = r := funext fun n => by rw [gI_rI, if_pos ⟨rfl, rfl⟩]
theorem gJ_self (σ : z_St) (a b : Nat) (r : Nat → Int64) : gJ (rJ σ a b r) a b = r := funext fun n => by rw [gJ_rJ, if_pos ⟨rfl, rfl⟩]
theorem gR_self (σ : z_St) (a b : Nat) (r : Nat → Option z_Ad) : gR (rR σ a b r) a b = r := funext fun n => by rw [gR_rR, if_pos ⟨rfl, rfl⟩]
theorem up_self {α : Type} (f : Nat → α) (n : Nat) (v : α) : va_up f n v n = v := if_pos rfl
theorem fs_putI {φ : z_Ad → Nat} {σ : z_St} {a b n : Nat} {x : Int32} (hf : fTy a b = 0) : (z_fs φ σ a n).set b (.int x) = z_fs φ (rI σ a b (va_up (gI σ a b) n x)) a n := by
  rw [← fs_set (φ := φ) (σ := σ) (σ' := rI σ a b (va_up (gI σ a b) n x)) (a := a) (b := b) (n := n), fv_0 hf, gI_self, up_self]
  intro b' hb
  have e : gI (rI σ a b (va_up (gI σ a b) n x)) a b' n = gI σ a b' n := by rw [gI_rI, if_neg (fun h => hb h.2)]
  unfold z_fv
  rw [e]
  rfl
theorem fs_putJ {φ : z_Ad → Nat} {σ : z_St} {a b n : Nat} {x : Int64} (hf : fTy a b = 1) : (z_fs φ σ a n).set b (.long x) = z_fs φ (rJ σ a b (va_up (gJ σ a b) n x)) a n := by
  rw [← fs_set (φ := φ) (σ := σ) (σ' := rJ σ a b (va_up (gJ σ a b) n x)) (a := a) (b := b) (n := n), fv_1 hf, gJ_self, up_self]
  intro b' hb
  have e : gJ (rJ σ a b (va_up (gJ σ a b) n x)) a b' n = gJ σ a b' n := by rw [gJ_rJ, if_neg (fun h => hb h.2)]
  unfold z_fv
  rw [e]
  rfl
theorem fs_putR {φ : z_Ad → Nat} {σ : z_St} {a b n : Nat} {x : Option z_Ad} (hf : fTy a b = 2) : (z_fs φ σ a n).set b (va_rf (x.map φ)) = z_fs φ (rR σ a b (va_up (gR σ a b) n x)) a n := by
  rw [← fs_set (φ := φ) (σ := σ) (σ' := rR σ a b (va_up (gR σ a b) n x)) (a := a) (b := b) (n := n), fv_2 hf, gR_self, up_self]
  intro b' hb
  have e : gR (rR σ a b (va_up (gR σ a b) n x)) a b' n = gR σ a b' n := by rw [gR_rR, if_neg (fun h => hb h.2)]
  unfold z_fv
  rw [e]
  rfl
theorem up_val {σ : z_St} {B : Nat → Prop} {f : Nat → Option z_Ad} {k : Nat} {x : Option z_Ad} (h : ∀ n q, B n → f n = some q → z_val σ q) (hx : ∀ q, x = some q → z_val σ q) : ∀ n q, B n → va_up f k x n = some q → z_val σ q := by
  intro n q hB hq
  unfold va_up at hq
  split at hq
  · exact hx q hq
  · exact h n q hB hq
def z_isR : FieldType → Bool
  | .object _ => true
  | .array _ => true
  | _ => false
theorem nar_R {t : FieldType} (h : z_isR t = true) (x : Option Nat) : narrow t (va_rf x) = va_rf x := by
  cases t <;> first | (cases h; done) | (cases x <;> rfl)
theorem fit_R {t : FieldType} (h : z_isR t = true) (x : Option Nat) : fits t (va_rf x) = true := by
  cases t <;> first | (cases h; done) | (cases x <;> rfl)
section SNF
variable {own : String} {cc : ByteArray} {nL d pc : Nat} {ini : Bool} {G : z_G} {l : Launch} {C : z_O}
variable {p : Program} {e : Env} {R : Room} {s : State} {m : MethodId} {args : Array Value} {below : List Frame} {meth : Method} {c : Code} {Q : State → Prop} {A : Nat → Prop} {φ0 : z_Ad → Nat} {σ0 σf : z_St} {r : Option z_V}
variable {φ : z_Ad → Nat} {σ : z_St} {H : Heap} {locs : List Loc} {ls : Array Slot} {rest : List Value}
theorem cell_O {a n : Nat} (ha : a < 11) : z_cell G φ σ (a, n) = .inr (a, z_fs φ σ a n) := by
  unfold z_cell
  rw [if_pos (show a < 16 by omega)]
theorem w_get {a b N idx : Nat} {Cn : String} {T : u_T} (hc : z_CL[a]? = some (Cn, T, N)) (hin : ∀ w ∈ u_ws Cn T N, w ∈ lw_all) (hN : oN a = N) (ha : a < 11) (hb : b < N) (hT : (T b).1 = Cn) (hlink : Cond.fieldLink own idx Cn (T b).2.1 (T b).2.2.1 ∈ lw_all) (hd : decode cc pc = .ok (.getfield idx, 3))
    (hx : z_cx own cc nL d G p R s m args meth c A σ0 σf) (hr : z_rel G s A φ0 σ0 φ σ H locs) {n : Nat} (hq : (a, n) ∈ al σ)
    (kk : z_WW p l e R s m args below meth c Q σ0 σ H locs (F0 m (pc + 3) ls (z_fv φ σ a b n :: rest))) : z_WW p l e R s m args below meth c Q σ0 σ H locs (F0 m pc ls (.ref (φ (a, n)) :: rest)) := by
  obtain ⟨i, hi, he⟩ := ws_at (G := G) (φ := φ) hq
  rw [cell_O ha] at he
  exact va_get hx.1.1 hx.1.2.1 hx.2.1 hin hx.1.2.2.2 hx.2.2.2.1 hr.1 i he hc b hb (hx.2.1 _ hlink) (fun x h => by rw [hT] at h; exact h) (fs_at (by rw [hN]; exact hb)) hd kk
theorem w_getN {a b N idx : Nat} {Cn : String} {host : String} {T : u_T} (hc : z_CL[a]? = some (Cn, T, N)) (hin : ∀ w ∈ u_ws Cn T N, w ∈ lw_all) (hN : oN a = N) (ha : a < 11) (hb : b < N) (hT : (T b).1 = Cn) (hlink : Cond.fieldLinkNest own idx Cn (T b).2.1 (T b).2.2.1 host ∈ lw_tbl) (hd : decode cc pc = .ok (.getfield idx, 3))
    (hx : z_cx own cc nL d G p R s m args meth c A σ0 σf) (hr : z_rel G s A φ0 σ0 φ σ H locs) {n : Nat} (hq : (a, n) ∈ al σ)
    (kk : z_WW p l e R s m args below meth c Q σ0 σ H locs (F0 m (pc + 3) ls (z_fv φ σ a b n :: rest))) : z_WW p l e R s m args below meth c Q σ0 σ H locs (F0 m pc ls (.ref (φ (a, n)) :: rest)) := by
  obtain ⟨i, hi, he⟩ := ws_at (G := G) (φ := φ) hq
  rw [cell_O ha] at he
  exact va_getN hx.1.1 hx.1.2.1 hx.2.1 hin hx.1.2.2.2 hx.2.2.2.1 hr.1 i he hc b hb (va_Nw.use rfl (hx.2.2.1 _ hlink rfl)) (fun x h => by rw [hT] at h; exact h) (fs_at (by rw [hN]; exact hb)) hd kk
theorem w_put {a b N idx : Nat} {Cn : String} {T : u_T} {F : Nat → FieldType} (hc : z_CL[a]? = some (Cn, T, N)) (hin : ∀ w ∈ u_ws Cn T N, w ∈ lw_all) (hF : ∀ k, k < N → parseFieldDescriptor (T k).2.2.1 = some (F k)) (hnm : ∀ a, a < N → ∀ b, b < N → a ≠ b → (T a).2.1 ≠ (T b).2.1) (hN : oN a = N) (ha : a < 11) (hb : b < N) (hT : (T b).1 = Cn) (hfin : (T b).2.2.2 = false) (hlink : Cond.fieldLink own idx Cn (T b).2.1 (T b).2.2.1 ∈ lw_all) (hd : decode cc pc = .ok (.putfield idx, 3))
    (hx : z_cx own cc nL d G p R s m args meth c A σ0 σf) (hr : z_rel G s A φ0 σ0 φ σ H locs) {n : Nat} (hq : (a, n) ∈ al σ) {v : Value} (hn : narrow (F b) v = v) (hfit : fits (F b) v = true) {σ' : z_St} (ho : z_only σ σ' (a, n)) (hcell : (z_fs φ σ a n).set b v = z_fs φ σ' a n) (hok : z_ok σ')
    (kk : ∀ (H1 : Heap) (locs1 : List Loc), z_rel G s A φ0 σ0 φ σ' H1 locs1 → z_WW p l e R s m args below meth c Q σ0 σ' H1 locs1 (F0 m (pc + 3) ls rest)) : z_WW p l e R s m args below meth c Q σ0 σ H locs (F0 m pc ls (v :: .ref (φ (a, n)) :: rest)) := by
  obtain ⟨i, hii, he⟩ := ws_at (G := G) (φ := φ) hq
  rw [cell_O ha] at he
  refine va_put hx.1.1 hx.1.2.1 hx.2.1 hin F hF hnm hx.1.2.2.2 hx.2.2.2.1 hr.1 hr.2.1 hr.2.2.1 i he hc b hb (hx.2.1 _ hlink) (fun x h => by rw [hT] at h; exact h) hfin (hF b hb) hn hfit (by unfold z_fs; rw [List.length_map, List.length_range, hN]; exact hb) hd (fun H1 locs1 hP hD hS => ?_)
  rw [hcell] at hP hD
  rw [show (Sum.inr (a, z_fs φ σ' a n) : va_E) = z_cell G φ σ' (a, n) from (cell_O ha).symm] at hP hD
  have kk := kk H1 locs1 (rel_put hr ho hii hok hP hD hS)
  unfold z_WW at kk
  rw [ho.1] at kk
  exact kk
theorem w_putN {a b N idx : Nat} {Cn : String} {host : String} {T : u_T} {F : Nat → FieldType} (hc : z_CL[a]? = some (Cn, T, N)) (hin : ∀ w ∈ u_ws Cn T N, w ∈ lw_all) (hF : ∀ k, k < N → parseFieldDescriptor (T k).2.2.1 = some (F k)) (hnm : ∀ a, a < N → ∀ b, b < N → a ≠ b → (T a).2.1 ≠ (T b).2.1) (hN : oN a = N) (ha : a < 11) (hb : b < N) (hT : (T b).1 = Cn) (hfin : (T b).2.2.2 = false) (hlink : Cond.fieldLinkNest own idx Cn (T b).2.1 (T b).2.2.1 host ∈ lw_tbl) (hd : decode cc pc = .ok (.putfield idx, 3))
    (hx : z_cx own cc nL d G p R s m args meth c A σ0 σf) (hr : z_rel G s A φ0 σ0 φ σ H locs) {n : Nat} (hq : (a, n) ∈ al σ) {v : Value} (hn : narrow (F b) v = v) (hfit : fits (F b) v = true) {σ' : z_St} (ho : z_only σ σ' (a, n)) (hcell : (z_fs φ σ a n).set b v = z_fs φ σ' a n) (hok : z_ok σ')
    (kk : ∀ (H1 : Heap) (locs1 : List Loc), z_rel G s A φ0 σ0 φ σ' H1 locs1 → z_WW p l e R s m args below meth c Q σ0 σ' H1 locs1 (F0 m (pc + 3) ls rest)) : z_WW p l e R s m args below meth c Q σ0 σ H locs (F0 m pc ls (v :: .ref (φ (a, n)) :: rest)) := by
  obtain ⟨i, hii, he⟩ := ws_at (G := G) (φ := φ) hq
  rw [cell_O ha] at he
  refine va_putN hx.1.1 hx.1.2.1 hx.2.1 hin F hF hnm hx.1.2.2.2 hx.2.2.2.1 hr.1 hr.2.1 hr.2.2.1 i he hc b hb (va_Nw.use rfl (hx.2.2.1 _ hlink rfl)) (fun x h => by rw [hT] at h; exact h) hfin (hF b hb) hn hfit (by unfold z_fs; rw [List.length_map, List.length_range, hN]; exact hb) hd (fun H1 locs1 hP hD hS => ?_)
  rw [hcell] at hP hD
  rw [show (Sum.inr (a, z_fs φ σ' a n) : va_E) = z_cell G φ σ' (a, n) from (cell_O ha).symm] at hP hD
  have kk := kk H1 locs1 (rel_put hr ho hii hok hP hD hS)
  unfold z_WW at kk
  rw [ho.1] at kk
  exact kk
theorem w_putF {a b N idx : Nat} {Cn : String} {T : u_T} {F : Nat → FieldType} (hc : z_CL[a]? = some (Cn, T, N)) (hin : ∀ w ∈ u_ws Cn T N, w ∈ lw_all) (hF : ∀ k, k < N → parseFieldDescriptor (T k).2.2.1 = some (F k)) (hnm : ∀ a, a < N → ∀ b, b < N → a ≠ b → (T a).2.1 ≠ (T b).2.1) (hN : oN a = N) (ha : a < 11) (hb : b < N) (hT : (T b).1 = Cn) (hfin : (T b).2.2.2 = true) (hlink : Cond.fieldLink own idx Cn (T b).2.1 (T b).2.2.1 ∈ lw_all) (hd : decode cc pc = .ok (.putfield idx, 3)) (hi : meth.name = "<init>") (hdecl : (T b).1 = own)
    (hx : z_cx own cc nL d G p R s m args meth c A σ0 σf) (hr : z_rel G s A φ0 σ0 φ σ H locs) {n : Nat} (hq : (a, n) ∈ al σ) {v : Value} (hn : narrow (F b) v = v) (hfit : fits (F b) v = true) {σ' : z_St} (ho : z_only σ σ' (a, n)) (hcell : (z_fs φ σ a n).set b v = z_fs φ σ' a n) (hok : z_ok σ')
    (kk : ∀ (H1 : Heap) (locs1 : List Loc), z_rel G s A φ0 σ0 φ σ' H1 locs1 → z_WW p l e R s m args below meth c Q σ0 σ' H1 locs1 (F0 m (pc + 3) ls rest)) : z_WW p l e R s m args below meth c Q σ0 σ H locs (F0 m pc ls (v :: .ref (φ (a, n)) :: rest)) := by
  obtain ⟨i, hii, he⟩ := ws_at (G := G) (φ := φ) hq
  rw [cell_O ha] at he
  refine va_putF hx.1.1 hx.1.2.1 hx.2.1 hin F hF hnm hx.1.2.2.2 hx.2.2.2.1 hr.1 hr.2.1 hr.2.2.1 i he hc b hb (hx.2.1 _ hlink) (fun x h => by rw [hT] at h; exact h) hfin hi hdecl (hF b hb) hn hfit (by unfold z_fs; rw [List.length_map, List.length_range, hN]; exact hb) hd (fun H1 locs1 hP hD hS => ?_)
  rw [hcell] at hP hD
  rw [show (Sum.inr (a, z_fs φ σ' a n) : va_E) = z_cell G φ σ' (a, n) from (cell_O ha).symm] at hP hD
  have kk := kk H1 locs1 (rel_put hr ho hii hok hP hD hS)
  unfold z_WW at kk
  rw [ho.1] at kk
  exact kk
end SNF
section SNG
variable {own : String} {cc : ByteArray} {nL d pc : Nat} {ini : Bool} {G : z_G} {l : Launch} {C : z_O}
theorem so_gI (a b : Nat) {N idx : Nat} {Cn : String} {T : u_T} (hc : z_CL[a]? = some (Cn, T, N)) (hin : ∀ w ∈ u_ws Cn T N, w ∈ lw_all) (hN : oN a = N) (ha : a < 11) (hb : b < N) (hT : (T b).1 = Cn) (hf : fTy a b = 0) (hlink : Cond.fieldLink own idx Cn (T b).2.1 (T b).2.2.1 ∈ lw_all) (hd : decode cc pc = .ok (.getfield idx, 3)) : z_SO own cc nL ini d G l C pc 3 (zo_gI a b) := by
  intro p e R s m args below meth c Q A φ0 σ0 σf r hx hi φ σ H locs ls lsA st hr hl hv k hk ho kk
  obtain ⟨q, st, rfl, h1⟩ := v_pD ho
  obtain ⟨hq, h2⟩ := v_ck h1
  obtain ⟨qa, n⟩ := q
  have hq : qa = a := hq
  subst hq
  have hal : (qa, n) ∈ al σ := val_al (vs_top hv _ rfl) (Or.inl (by show qa < 12; omega))
  refine w_get hc hin hN ha hb hT hlink hd hx hr hal ?_
  rw [fv_0 hf]
  exact kk φ σ H locs ls lsA _ hr hl (vs_psh (vs_pop hv) (vv_I _ _)) h2
theorem so_gJ (a b : Nat) {N idx : Nat} {Cn : String} {T : u_T} (hc : z_CL[a]? = some (Cn, T, N)) (hin : ∀ w ∈ u_ws Cn T N, w ∈ lw_all) (hN : oN a = N) (ha : a < 11) (hb : b < N) (hT : (T b).1 = Cn) (hf : fTy a b = 1) (hlink : Cond.fieldLink own idx Cn (T b).2.1 (T b).2.2.1 ∈ lw_all) (hd : decode cc pc = .ok (.getfield idx, 3)) : z_SO own cc nL ini d G l C pc 3 (zo_gJ a b) := by
  intro p e R s m args below meth c Q A φ0 σ0 σf r hx hi φ σ H locs ls lsA st hr hl hv k hk ho kk
  obtain ⟨q, st, rfl, h1⟩ := v_pD ho
  obtain ⟨hq, h2⟩ := v_ck h1
  obtain ⟨qa, n⟩ := q
  have hq : qa = a := hq
  subst hq
  have hal : (qa, n) ∈ al σ := val_al (vs_top hv _ rfl) (Or.inl (by show qa < 12; omega))
  refine w_get hc hin hN ha hb hT hlink hd hx hr hal ?_
  rw [fv_1 hf]
  exact kk φ σ H locs ls lsA _ hr hl (vs_psh (vs_pop hv) (vv_J _ _)) h2
theorem so_gR (a b : Nat) {N idx : Nat} {Cn : String} {T : u_T} (hc : z_CL[a]? = some (Cn, T, N)) (hin : ∀ w ∈ u_ws Cn T N, w ∈ lw_all) (hN : oN a = N) (ha : a < 11) (hb : b < N) (hT : (T b).1 = Cn) (hf : fTy a b = 2) (hlink : Cond.fieldLink own idx Cn (T b).2.1 (T b).2.2.1 ∈ lw_all) (hd : decode cc pc = .ok (.getfield idx, 3)) : z_SO own cc nL ini d G l C pc 3 (zo_gR a b) := by
  intro p e R s m args below meth c Q A φ0 σ0 σf r hx hi φ σ H locs ls lsA st hr hl hv k hk ho kk
  obtain ⟨q, st, rfl, h1⟩ := v_pD ho
  obtain ⟨hq, h2⟩ := v_ck h1
  obtain ⟨qa, n⟩ := q
  have hq : qa = a := hq
  subst hq
  have hal : (qa, n) ∈ al σ := val_al (vs_top hv _ rfl) (Or.inl (by show qa < 12; omega))
  refine w_get hc hin hN ha hb hT hlink hd hx hr hal ?_
  rw [fv_2 hf]
  exact kk φ σ H locs ls lsA _ hr hl (vs_psh (vs_pop hv) (vv_r (fun z hz => hr.2.2.2.1.2.2.1 _ _ _ z (own_O (by omega) hal) hz))) h2
theorem so_gIN (a b : Nat) {N idx : Nat} {Cn : String} {host : String} {T : u_T} (hc : z_CL[a]? = some (Cn, T, N)) (hin : ∀ w ∈ u_ws Cn T N, w ∈ lw_all) (hN : oN a = N) (ha : a < 11) (hb : b < N) (hT : (T b).1 = Cn) (hf : fTy a b = 0) (hlink : Cond.fieldLinkNest own idx Cn (T b).2.1 (T b).2.2.1 host ∈ lw_tbl) (hd : decode cc pc = .ok (.getfield idx, 3)) : z_SO own cc nL ini d G l C pc 3 (zo_gI a b) := by
  intro p e R s m args below meth c Q A φ0 σ0 σf r hx hi φ σ H locs ls lsA st hr hl hv k hk ho kk
  obtain ⟨q, st, rfl, h1⟩ := v_pD ho
  obtain ⟨hq, h2⟩ := v_ck h1
  obtain ⟨qa, n⟩ := q
  have hq : qa = a := hq
  subst hq
  have hal : (qa, n) ∈ al σ := val_al (vs_top hv _ rfl) (Or.inl (by show qa < 12; omega))
  refine w_getN hc hin hN ha hb hT hlink hd hx hr hal ?_
  rw [fv_0 hf]
  exact kk φ σ H locs ls lsA _ hr hl (vs_psh (vs_pop hv) (vv_I _ _)) h2
theorem so_gJN (a b : Nat) {N idx : Nat} {Cn : String} {host : String} {T : u_T} (hc : z_CL[a]? = some (Cn, T, N)) (hin : ∀ w ∈ u_ws Cn T N, w ∈ lw_all) (hN : oN a = N) (ha : a < 11) (hb : b < N) (hT : (T b).1 = Cn) (hf : fTy a b = 1) (hlink : Cond.fieldLinkNest own idx Cn (T b).2.1 (T b).2.2.1 host ∈ lw_tbl) (hd : decode cc pc = .ok (.getfield idx, 3)) : z_SO own cc nL ini d G l C pc 3 (zo_gJ a b) := by
  intro p e R s m args below meth c Q A φ0 σ0 σf r hx hi φ σ H locs ls lsA st hr hl hv k hk ho kk
  obtain ⟨q, st, rfl, h1⟩ := v_pD ho
  obtain ⟨hq, h2⟩ := v_ck h1
  obtain ⟨qa, n⟩ := q
  have hq : qa = a := hq
  subst hq
  have hal : (qa, n) ∈ al σ := val_al (vs_top hv _ rfl) (Or.inl (by show qa < 12; omega))
  refine w_getN hc hin hN ha hb hT hlink hd hx hr hal ?_
  rw [fv_1 hf]
  exact kk φ σ H locs ls lsA _ hr hl (vs_psh (vs_pop hv) (vv_J _ _)) h2
theorem so_gRN (a b : Nat) {N idx : Nat} {Cn : String} {host : String} {T : u_T} (hc : z_CL[a]? = some (Cn, T, N)) (hin : ∀ w ∈ u_ws Cn T N, w ∈ lw_all) (hN : oN a = N) (ha : a < 11) (hb : b < N) (hT : (T b).1 = Cn) (hf : fTy a b = 2) (hlink : Cond.fieldLinkNest own idx Cn (T b).2.1 (T b).2.2.1 host ∈ lw_tbl) (hd : decode cc pc = .ok (.getfield idx, 3)) : z_SO own cc nL ini d G l C pc 3 (zo_gR a b) := by
  intro p e R s m args below meth c Q A φ0 σ0 σf r hx hi φ σ H locs ls lsA st hr hl hv k hk ho kk
  obtain ⟨q, st, rfl, h1⟩ := v_pD ho
  obtain ⟨hq, h2⟩ := v_ck h1
  obtain ⟨qa, n⟩ := q
  have hq : qa = a := hq
  subst hq
  have hal : (qa, n) ∈ al σ := val_al (vs_top hv _ rfl) (Or.inl (by show qa < 12; omega))
  refine w_getN hc hin hN ha hb hT hlink hd hx hr hal ?_
  rw [fv_2 hf]
  exact kk φ σ H locs ls lsA _ hr hl (vs_psh (vs_pop hv) (vv_r (fun z hz => hr.2.2.2.1.2.2.1 _ _ _ z (own_O (by omega) hal) hz))) h2
theorem so_pI (a b : Nat) {N idx : Nat} {Cn : String} {T : u_T} {F : Nat → FieldType} (hc : z_CL[a]? = some (Cn, T, N)) (hin : ∀ w ∈ u_ws Cn T N, w ∈ lw_all) (hF : ∀ k, k < N → parseFieldDescriptor (T k).2.2.1 = some (F k)) (hnm : ∀ a, a < N → ∀ b, b < N → a ≠ b → (T a).2.1 ≠ (T b).2.1) (hN : oN a = N) (ha : a < 11) (hb : b < N) (hT : (T b).1 = Cn) (hfin : (T b).2.2.2 = false) (hf : fTy a b = 0) (hFt : F b = .int) (hlink : Cond.fieldLink own idx Cn (T b).2.1 (T b).2.2.1 ∈ lw_all) (hd : decode cc pc = .ok (.putfield idx, 3)) : z_SO own cc nL ini d G l C pc 3 (zo_pI a b) := by
  intro p e R s m args below meth c Q A φ0 σ0 σf r hx hi φ σ H locs ls lsA st hr hl hv k hk ho kk
  obtain ⟨x, st, rfl, h0⟩ := v_pI ho
  obtain ⟨q, st, rfl, h1⟩ := v_pD h0
  obtain ⟨hq, h2⟩ := v_ck h1
  obtain ⟨qa, n⟩ := q
  have hq : qa = a := hq
  subst hq
  refine w_put hc hin hF hnm hN ha hb hT hfin hlink hd hx hr (val_al (vs_top (vs_pop hv) _ rfl) (Or.inl (by show qa < 12; omega))) (by rw [hFt]; rfl) (by rw [hFt]; rfl) (only_fI (by omega)) (fs_putI hf) (ok_rI hr.2.2.2.1 (fun h => absurd h (by simp only [aTy]; omega))) (fun H1 locs1 hr1 => ?_)
  exact kk φ _ H1 locs1 ls lsA _ hr1 hl (vs_pop (vs_pop hv)) h2
theorem so_pZ (a b : Nat) {N idx : Nat} {Cn : String} {T : u_T} {F : Nat → FieldType} (hc : z_CL[a]? = some (Cn, T, N)) (hin : ∀ w ∈ u_ws Cn T N, w ∈ lw_all) (hF : ∀ k, k < N → parseFieldDescriptor (T k).2.2.1 = some (F k)) (hnm : ∀ a, a < N → ∀ b, b < N → a ≠ b → (T a).2.1 ≠ (T b).2.1) (hN : oN a = N) (ha : a < 11) (hb : b < N) (hT : (T b).1 = Cn) (hfin : (T b).2.2.2 = false) (hf : fTy a b = 0) (hFt : F b = .boolean) (hlink : Cond.fieldLink own idx Cn (T b).2.1 (T b).2.2.1 ∈ lw_all) (hd : decode cc pc = .ok (.putfield idx, 3)) : z_SO own cc nL ini d G l C pc 3 (zo_pZ a b) := by
  intro p e R s m args below meth c Q A φ0 σ0 σf r hx hi φ σ H locs ls lsA st hr hl hv k hk ho kk
  obtain ⟨x, st, rfl, h0⟩ := v_pI ho
  obtain ⟨q, st, rfl, h1⟩ := v_pD h0
  obtain ⟨hq, h2⟩ := v_ck h1
  obtain ⟨qa, n⟩ := q
  have hq : qa = a := hq
  subst hq
  obtain ⟨hz, h2⟩ := v_ck h2
  refine w_put hc hin hF hnm hN ha hb hT hfin hlink hd hx hr (val_al (vs_top (vs_pop hv) _ rfl) (Or.inl (by show qa < 12; omega))) (by rw [hFt]; rcases hz with h | h <;> subst h <;> rfl) (by rw [hFt]; rcases hz with h | h <;> subst h <;> rfl) (only_fI (by omega)) (fs_putI hf) (ok_rI hr.2.2.2.1 (fun h => absurd h (by simp only [aTy]; omega))) (fun H1 locs1 hr1 => ?_)
  exact kk φ _ H1 locs1 ls lsA _ hr1 hl (vs_pop (vs_pop hv)) h2
theorem so_pJ (a b : Nat) {N idx : Nat} {Cn : String} {T : u_T} {F : Nat → FieldType} (hc : z_CL[a]? = some (Cn, T, N)) (hin : ∀ w ∈ u_ws Cn T N, w ∈ lw_all) (hF : ∀ k, k < N → parseFieldDescriptor (T k).2.2.1 = some (F k)) (hnm : ∀ a, a < N → ∀ b, b < N → a ≠ b → (T a).2.1 ≠ (T b).2.1) (hN : oN a = N) (ha : a < 11) (hb : b < N) (hT : (T b).1 = Cn) (hfin : (T b).2.2.2 = false) (hf : fTy a b = 1) (hFt : F b = .long) (hlink : Cond.fieldLink own idx Cn (T b).2.1 (T b).2.2.1 ∈ lw_all) (hd : decode cc pc = .ok (.putfield idx, 3)) : z_SO own cc nL ini d G l C pc 3 (zo_pJ a b) := by
  intro p e R s m args below meth c Q A φ0 σ0 σf r hx hi φ σ H locs ls lsA st hr hl hv k hk ho kk
  obtain ⟨x, st, rfl, h0⟩ := v_pJ ho
  obtain ⟨q, st, rfl, h1⟩ := v_pD h0
  obtain ⟨hq, h2⟩ := v_ck h1
  obtain ⟨qa, n⟩ := q
  have hq : qa = a := hq
  subst hq
  refine w_put hc hin hF hnm hN ha hb hT hfin hlink hd hx hr (val_al (vs_top (vs_pop hv) _ rfl) (Or.inl (by show qa < 12; omega))) (by rw [hFt]; rfl) (by rw [hFt]; rfl) (only_fJ (by omega)) (fs_putJ hf) (ok_rJ hr.2.2.2.1) (fun H1 locs1 hr1 => ?_)
  exact kk φ _ H1 locs1 ls lsA _ hr1 hl (vs_pop (vs_pop hv)) h2
theorem so_pR (a b : Nat) {N idx : Nat} {Cn : String} {T : u_T} {F : Nat → FieldType} (hc : z_CL[a]? = some (Cn, T, N)) (hin : ∀ w ∈ u_ws Cn T N, w ∈ lw_all) (hF : ∀ k, k < N → parseFieldDescriptor (T k).2.2.1 = some (F k)) (hnm : ∀ a, a < N → ∀ b, b < N → a ≠ b → (T a).2.1 ≠ (T b).2.1) (hN : oN a = N) (ha : a < 11) (hb : b < N) (hT : (T b).1 = Cn) (hfin : (T b).2.2.2 = false) (hf : fTy a b = 2) (hFt : z_isR (F b) = true) (hlink : Cond.fieldLink own idx Cn (T b).2.1 (T b).2.2.1 ∈ lw_all) (hd : decode cc pc = .ok (.putfield idx, 3)) : z_SO own cc nL ini d G l C pc 3 (zo_pR a b) := by
  intro p e R s m args below meth c Q A φ0 σ0 σf r hx hi φ σ H locs ls lsA st hr hl hv k hk ho kk
  obtain ⟨x, st, rfl, h0⟩ := v_pR ho
  obtain ⟨q, st, rfl, h1⟩ := v_pD h0
  obtain ⟨hq, h2⟩ := v_ck h1
  obtain ⟨qa, n⟩ := q
  have hq : qa = a := hq
  subst hq
  refine w_put hc hin hF hnm hN ha hb hT hfin hlink hd hx hr (val_al (vs_top (vs_pop hv) _ rfl) (Or.inl (by show qa < 12; omega))) (nar_R hFt (x.map φ)) (fit_R hFt (x.map φ)) (only_fR (by omega)) (fs_putR hf) (ok_rR hr.2.2.2.1 (up_val (fun z w ho hw => hr.2.2.2.1.2.2.1 _ _ _ w ho hw) (fun w hw => vs_top hv w (by rw [hw])))) (fun H1 locs1 hr1 => ?_)
  exact kk φ _ H1 locs1 ls lsA _ hr1 hl (vs_pop (vs_pop hv)) h2
theorem so_pIN (a b : Nat) {N idx : Nat} {Cn : String} {host : String} {T : u_T} {F : Nat → FieldType} (hc : z_CL[a]? = some (Cn, T, N)) (hin : ∀ w ∈ u_ws Cn T N, w ∈ lw_all) (hF : ∀ k, k < N → parseFieldDescriptor (T k).2.2.1 = some (F k)) (hnm : ∀ a, a < N → ∀ b, b < N → a ≠ b → (T a).2.1 ≠ (T b).2.1) (hN : oN a = N) (ha : a < 11) (hb : b < N) (hT : (T b).1 = Cn) (hfin : (T b).2.2.2 = false) (hf : fTy a b = 0) (hFt : F b = .int) (hlink : Cond.fieldLinkNest own idx Cn (T b).2.1 (T b).2.2.1 host ∈ lw_tbl) (hd : decode cc pc = .ok (.putfield idx, 3)) : z_SO own cc nL ini d G l C pc 3 (zo_pI a b) := by
  intro p e R s m args below meth c Q A φ0 σ0 σf r hx hi φ σ H locs ls lsA st hr hl hv k hk ho kk
  obtain ⟨x, st, rfl, h0⟩ := v_pI ho
  obtain ⟨q, st, rfl, h1⟩ := v_pD h0
  obtain ⟨hq, h2⟩ := v_ck h1
  obtain ⟨qa, n⟩ := q
  have hq : qa = a := hq
  subst hq
  refine w_putN hc hin hF hnm hN ha hb hT hfin hlink hd hx hr (val_al (vs_top (vs_pop hv) _ rfl) (Or.inl (by show qa < 12; omega))) (by rw [hFt]; rfl) (by rw [hFt]; rfl) (only_fI (by omega)) (fs_putI hf) (ok_rI hr.2.2.2.1 (fun h => absurd h (by simp only [aTy]; omega))) (fun H1 locs1 hr1 => ?_)
  exact kk φ _ H1 locs1 ls lsA _ hr1 hl (vs_pop (vs_pop hv)) h2
theorem so_pZN (a b : Nat) {N idx : Nat} {Cn : String} {host : String} {T : u_T} {F : Nat → FieldType} (hc : z_CL[a]? = some (Cn, T, N)) (hin : ∀ w ∈ u_ws Cn T N, w ∈ lw_all) (hF : ∀ k, k < N → parseFieldDescriptor (T k).2.2.1 = some (F k)) (hnm : ∀ a, a < N → ∀ b, b < N → a ≠ b → (T a).2.1 ≠ (T b).2.1) (hN : oN a = N) (ha : a < 11) (hb : b < N) (hT : (T b).1 = Cn) (hfin : (T b).2.2.2 = false) (hf : fTy a b = 0) (hFt : F b = .boolean) (hlink : Cond.fieldLinkNest own idx Cn (T b).2.1 (T b).2.2.1 host ∈ lw_tbl) (hd : decode cc pc = .ok (.putfield idx, 3)) : z_SO own cc nL ini d G l C pc 3 (zo_pZ a b) := by
  intro p e R s m args below meth c Q A φ0 σ0 σf r hx hi φ σ H locs ls lsA st hr hl hv k hk ho kk
  obtain ⟨x, st, rfl, h0⟩ := v_pI ho
  obtain ⟨q, st, rfl, h1⟩ := v_pD h0
  obtain ⟨hq, h2⟩ := v_ck h1
  obtain ⟨qa, n⟩ := q
  have hq : qa = a := hq
  subst hq
  obtain ⟨hz, h2⟩ := v_ck h2
  refine w_putN hc hin hF hnm hN ha hb hT hfin hlink hd hx hr (val_al (vs_top (vs_pop hv) _ rfl) (Or.inl (by show qa < 12; omega))) (by rw [hFt]; rcases hz with h | h <;> subst h <;> rfl) (by rw [hFt]; rcases hz with h | h <;> subst h <;> rfl) (only_fI (by omega)) (fs_putI hf) (ok_rI hr.2.2.2.1 (fun h => absurd h (by simp only [aTy]; omega))) (fun H1 locs1 hr1 => ?_)
  exact kk φ _ H1 locs1 ls lsA _ hr1 hl (vs_pop (vs_pop hv)) h2
theorem so_pJN (a b : Nat) {N idx : Nat} {Cn : String} {host : String} {T : u_T} {F : Nat → FieldType} (hc : z_CL[a]? = some (Cn, T, N)) (hin : ∀ w ∈ u_ws Cn T N, w ∈ lw_all) (hF : ∀ k, k < N → parseFieldDescriptor (T k).2.2.1 = some (F k)) (hnm : ∀ a, a < N → ∀ b, b < N → a ≠ b → (T a).2.1 ≠ (T b).2.1) (hN : oN a = N) (ha : a < 11) (hb : b < N) (hT : (T b).1 = Cn) (hfin : (T b).2.2.2 = false) (hf : fTy a b = 1) (hFt : F b = .long) (hlink : Cond.fieldLinkNest own idx Cn (T b).2.1 (T b).2.2.1 host ∈ lw_tbl) (hd : decode cc pc = .ok (.putfield idx, 3)) : z_SO own cc nL ini d G l C pc 3 (zo_pJ a b) := by
  intro p e R s m args below meth c Q A φ0 σ0 σf r hx hi φ σ H locs ls lsA st hr hl hv k hk ho kk
  obtain ⟨x, st, rfl, h0⟩ := v_pJ ho
  obtain ⟨q, st, rfl, h1⟩ := v_pD h0
  obtain ⟨hq, h2⟩ := v_ck h1
  obtain ⟨qa, n⟩ := q
  have hq : qa = a := hq
  subst hq
  refine w_putN hc hin hF hnm hN ha hb hT hfin hlink hd hx hr (val_al (vs_top (vs_pop hv) _ rfl) (Or.inl (by show qa < 12; omega))) (by rw [hFt]; rfl) (by rw [hFt]; rfl) (only_fJ (by omega)) (fs_putJ hf) (ok_rJ hr.2.2.2.1) (fun H1 locs1 hr1 => ?_)
  exact kk φ _ H1 locs1 ls lsA _ hr1 hl (vs_pop (vs_pop hv)) h2
theorem so_pRN (a b : Nat) {N idx : Nat} {Cn : String} {host : String} {T : u_T} {F : Nat → FieldType} (hc : z_CL[a]? = some (Cn, T, N)) (hin : ∀ w ∈ u_ws Cn T N, w ∈ lw_all) (hF : ∀ k, k < N → parseFieldDescriptor (T k).2.2.1 = some (F k)) (hnm : ∀ a, a < N → ∀ b, b < N → a ≠ b → (T a).2.1 ≠ (T b).2.1) (hN : oN a = N) (ha : a < 11) (hb : b < N) (hT : (T b).1 = Cn) (hfin : (T b).2.2.2 = false) (hf : fTy a b = 2) (hFt : z_isR (F b) = true) (hlink : Cond.fieldLinkNest own idx Cn (T b).2.1 (T b).2.2.1 host ∈ lw_tbl) (hd : decode cc pc = .ok (.putfield idx, 3)) : z_SO own cc nL ini d G l C pc 3 (zo_pR a b) := by
  intro p e R s m args below meth c Q A φ0 σ0 σf r hx hi φ σ H locs ls lsA st hr hl hv k hk ho kk
  obtain ⟨x, st, rfl, h0⟩ := v_pR ho
  obtain ⟨q, st, rfl, h1⟩ := v_pD h0
  obtain ⟨hq, h2⟩ := v_ck h1
  obtain ⟨qa, n⟩ := q
  have hq : qa = a := hq
  subst hq
  refine w_putN hc hin hF hnm hN ha hb hT hfin hlink hd hx hr (val_al (vs_top (vs_pop hv) _ rfl) (Or.inl (by show qa < 12; omega))) (nar_R hFt (x.map φ)) (fit_R hFt (x.map φ)) (only_fR (by omega)) (fs_putR hf) (ok_rR hr.2.2.2.1 (up_val (fun z w ho hw => hr.2.2.2.1.2.2.1 _ _ _ w ho hw) (fun w hw => vs_top hv w (by rw [hw])))) (fun H1 locs1 hr1 => ?_)
  exact kk φ _ H1 locs1 ls lsA _ hr1 hl (vs_pop (vs_pop hv)) h2
theorem so_pIF (a b : Nat) {N idx : Nat} {Cn : String} {T : u_T} {F : Nat → FieldType} (hc : z_CL[a]? = some (Cn, T, N)) (hin : ∀ w ∈ u_ws Cn T N, w ∈ lw_all) (hF : ∀ k, k < N → parseFieldDescriptor (T k).2.2.1 = some (F k)) (hnm : ∀ a, a < N → ∀ b, b < N → a ≠ b → (T a).2.1 ≠ (T b).2.1) (hN : oN a = N) (ha : a < 11) (hb : b < N) (hT : (T b).1 = Cn) (hfin : (T b).2.2.2 = true) (hf : fTy a b = 0) (hFt : F b = .int) (hlink : Cond.fieldLink own idx Cn (T b).2.1 (T b).2.2.1 ∈ lw_all) (hd : decode cc pc = .ok (.putfield idx, 3)) (hini : ini = true) (hdecl : (T b).1 = own) : z_SO own cc nL ini d G l C pc 3 (zo_pI a b) := by
  intro p e R s m args below meth c Q A φ0 σ0 σf r hx hi φ σ H locs ls lsA st hr hl hv k hk ho kk
  obtain ⟨x, st, rfl, h0⟩ := v_pI ho
  obtain ⟨q, st, rfl, h1⟩ := v_pD h0
  obtain ⟨hq, h2⟩ := v_ck h1
  obtain ⟨qa, n⟩ := q
  have hq : qa = a := hq
  subst hq
  refine w_putF hc hin hF hnm hN ha hb hT hfin hlink hd (hi hini) hdecl hx hr (val_al (vs_top (vs_pop hv) _ rfl) (Or.inl (by show qa < 12; omega))) (by rw [hFt]; rfl) (by rw [hFt]; rfl) (only_fI (by omega)) (fs_putI hf) (ok_rI hr.2.2.2.1 (fun h => absurd h (by simp only [aTy]; omega))) (fun H1 locs1 hr1 => ?_)
  exact kk φ _ H1 locs1 ls lsA _ hr1 hl (vs_pop (vs_pop hv)) h2
theorem so_pZF (a b : Nat) {N idx : Nat} {Cn : String} {T : u_T} {F : Nat → FieldType} (hc : z_CL[a]? = some (Cn, T, N)) (hin : ∀ w ∈ u_ws Cn T N, w ∈ lw_all) (hF : ∀ k, k < N → parseFieldDescriptor (T k).2.2.1 = some (F k)) (hnm : ∀ a, a < N → ∀ b, b < N → a ≠ b → (T a).2.1 ≠ (T b).2.1) (hN : oN a = N) (ha : a < 11) (hb : b < N) (hT : (T b).1 = Cn) (hfin : (T b).2.2.2 = true) (hf : fTy a b = 0) (hFt : F b = .boolean) (hlink : Cond.fieldLink own idx Cn (T b).2.1 (T b).2.2.1 ∈ lw_all) (hd : decode cc pc = .ok (.putfield idx, 3)) (hini : ini = true) (hdecl : (T b).1 = own) : z_SO own cc nL ini d G l C pc 3 (zo_pZ a b) := by
  intro p e R s m args below meth c Q A φ0 σ0 σf r hx hi φ σ H locs ls lsA st hr hl hv k hk ho kk
  obtain ⟨x, st, rfl, h0⟩ := v_pI ho
  obtain ⟨q, st, rfl, h1⟩ := v_pD h0
  obtain ⟨hq, h2⟩ := v_ck h1
  obtain ⟨qa, n⟩ := q
  have hq : qa = a := hq
  subst hq
  obtain ⟨hz, h2⟩ := v_ck h2
  refine w_putF hc hin hF hnm hN ha hb hT hfin hlink hd (hi hini) hdecl hx hr (val_al (vs_top (vs_pop hv) _ rfl) (Or.inl (by show qa < 12; omega))) (by rw [hFt]; rcases hz with h | h <;> subst h <;> rfl) (by rw [hFt]; rcases hz with h | h <;> subst h <;> rfl) (only_fI (by omega)) (fs_putI hf) (ok_rI hr.2.2.2.1 (fun h => absurd h (by simp only [aTy]; omega))) (fun H1 locs1 hr1 => ?_)
  exact kk φ _ H1 locs1 ls lsA _ hr1 hl (vs_pop (vs_pop hv)) h2
theorem so_pJF (a b : Nat) {N idx : Nat} {Cn : String} {T : u_T} {F : Nat → FieldType} (hc : z_CL[a]? = some (Cn, T, N)) (hin : ∀ w ∈ u_ws Cn T N, w ∈ lw_all) (hF : ∀ k, k < N → parseFieldDescriptor (T k).2.2.1 = some (F k)) (hnm : ∀ a, a < N → ∀ b, b < N → a ≠ b → (T a).2.1 ≠ (T b).2.1) (hN : oN a = N) (ha : a < 11) (hb : b < N) (hT : (T b).1 = Cn) (hfin : (T b).2.2.2 = true) (hf : fTy a b = 1) (hFt : F b = .long) (hlink : Cond.fieldLink own idx Cn (T b).2.1 (T b).2.2.1 ∈ lw_all) (hd : decode cc pc = .ok (.putfield idx, 3)) (hini : ini = true) (hdecl : (T b).1 = own) : z_SO own cc nL ini d G l C pc 3 (zo_pJ a b) := by
  intro p e R s m args below meth c Q A φ0 σ0 σf r hx hi φ σ H locs ls lsA st hr hl hv k hk ho kk
  obtain ⟨x, st, rfl, h0⟩ := v_pJ ho
  obtain ⟨q, st, rfl, h1⟩ := v_pD h0
  obtain ⟨hq, h2⟩ := v_ck h1
  obtain ⟨qa, n⟩ := q
  have hq : qa = a := hq
  subst hq
  refine w_putF hc hin hF hnm hN ha hb hT hfin hlink hd (hi hini) hdecl hx hr (val_al (vs_top (vs_pop hv) _ rfl) (Or.inl (by show qa < 12; omega))) (by rw [hFt]; rfl) (by rw [hFt]; rfl) (only_fJ (by omega)) (fs_putJ hf) (ok_rJ hr.2.2.2.1) (fun H1 locs1 hr1 => ?_)
  exact kk φ _ H1 locs1 ls lsA _ hr1 hl (vs_pop (vs_pop hv)) h2
theorem so_pRF (a b : Nat) {N idx : Nat} {Cn : String} {T : u_T} {F : Nat → FieldType} (hc : z_CL[a]? = some (Cn, T, N)) (hin : ∀ w ∈ u_ws Cn T N, w ∈ lw_all) (hF : ∀ k, k < N → parseFieldDescriptor (T k).2.2.1 = some (F k)) (hnm : ∀ a, a < N → ∀ b, b < N → a ≠ b → (T a).2.1 ≠ (T b).2.1) (hN : oN a = N) (ha : a < 11) (hb : b < N) (hT : (T b).1 = Cn) (hfin : (T b).2.2.2 = true) (hf : fTy a b = 2) (hFt : z_isR (F b) = true) (hlink : Cond.fieldLink own idx Cn (T b).2.1 (T b).2.2.1 ∈ lw_all) (hd : decode cc pc = .ok (.putfield idx, 3)) (hini : ini = true) (hdecl : (T b).1 = own) : z_SO own cc nL ini d G l C pc 3 (zo_pR a b) := by
  intro p e R s m args below meth c Q A φ0 σ0 σf r hx hi φ σ H locs ls lsA st hr hl hv k hk ho kk
  obtain ⟨x, st, rfl, h0⟩ := v_pR ho
  obtain ⟨q, st, rfl, h1⟩ := v_pD h0
  obtain ⟨hq, h2⟩ := v_ck h1
  obtain ⟨qa, n⟩ := q
  have hq : qa = a := hq
  subst hq
  refine w_putF hc hin hF hnm hN ha hb hT hfin hlink hd (hi hini) hdecl hx hr (val_al (vs_top (vs_pop hv) _ rfl) (Or.inl (by show qa < 12; omega))) (nar_R hFt (x.map φ)) (fit_R hFt (x.map φ)) (only_fR (by omega)) (fs_putR hf) (ok_rR hr.2.2.2.1 (up_val (fun z w ho hw => hr.2.2.2.1.2.2.1 _ _ _ w ho hw) (fun w hw => vs_top hv w (by rw [hw])))) (fun H1 locs1 hr1 => ?_)
  exact kk φ _ H1 locs1 ls lsA _ hr1 hl (vs_pop (vs_pop hv)) h2
end SNG
