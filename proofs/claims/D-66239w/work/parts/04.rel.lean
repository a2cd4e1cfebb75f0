/-! PART 04: what the simple machine's state says of the real heap -/
/-- numbers of classes, slots, array classes; addresses of the constants (12, i), their rows (13, i), the script (14, 0), the constants' array (15, 0) -/
abbrev z_G : Type := (Nat → ClassId) × (Nat → Nat → Nat) × (Nat → ClassId) × (z_Ad → Nat)
def z_D2 (G : z_G) : va_G := (G.1, G.2.1)
def z_tys (G : z_G) : List (ClassId × FieldType) := [(G.2.2.1 16, .int), (G.2.2.1 17, .byte), (G.2.2.1 18, .boolean), (G.2.2.1 19, .long), (G.2.2.1 20, .object "QuotaPeers$Link"), (G.2.2.1 21, .object "QuotaPeers$Peer"), (G.2.2.1 22, .object "QuotaPeers$Account"), (G.2.2.1 23, .object "QuotaPeers$Session"), (G.2.2.1 24, .object "QuotaPeers$Question"), (G.2.2.1 25, .object "QuotaPeers$Answer"), (G.2.2.1 26, .object "QuotaPeers$Command")]
def rv (φ : z_Ad → Nat) : z_V → Value
  | .inl x => .int x
  | .inr (.inl x) => .long x
  | .inr (.inr r) => va_rf (r.map φ)
def z_fv (φ : z_Ad → Nat) (σ : z_St) (a b n : Nat) : Value := match fTy a b with
  | 0 => .int (gI σ a b n)
  | 1 => .long (gJ σ a b n)
  | _ => va_rf ((gR σ a b n).map φ)
def z_fs (φ : z_Ad → Nat) (σ : z_St) (a n : Nat) : List Value := (List.range (oN a)).map fun b => z_fv φ σ a b n
def z_arr (φ : z_Ad → Nat) (σ : z_St) (q : z_Ad) : vp_A :=
  (aLen q.1, if aTy q.1 < 19 then .inl (gI σ q.1 q.2) else if aTy q.1 = 19 then .inr (.inl (gJ σ q.1 q.2)) else .inr (.inr (.inr (.inr fun i => (gR σ q.1 q.2 i).map φ))))
def z_cell (G : z_G) (φ : z_Ad → Nat) (σ : z_St) (q : z_Ad) : va_E := if q.1 < 16 then .inr (q.1, z_fs φ σ q.1 q.2) else .inl (G.2.2.1 (aTy q.1), z_arr φ σ q)
def z_ws (G : z_G) (φ : z_Ad → Nat) (σ : z_St) : va_W := (al σ).map fun q => (φ q, z_cell G φ σ q)
def z_val (σ : z_St) (q : z_Ad) : Prop := q ∈ al σ ∨ (12 ≤ q.1 ∧ q.1 ≤ 15)
def z_vv (σ : z_St) (v : z_V) : Prop := ∀ q, v = .inr (.inr (some q)) → z_val σ q
def z_vs (σ : z_St) (ls : z_L) (st : List z_V) : Prop := (∀ i v, z_get ls i = some v → z_vv σ v) ∧ ∀ v ∈ st, z_vv σ v
def z_kind (a : Nat) : Prop := a < 11 ∨ (16 ≤ aTy a ∧ aTy a ≤ 26)
/-- whose a place of the memory is -/
def z_own (a b n : Nat) : z_Ad := if a < 16 then (a, n) else (a, b)
def z_ok (σ : z_St) : Prop := (al σ).Nodup ∧ (∀ q ∈ al σ, q.2 < cn σ q.1 + z_off q.1 ∧ z_kind q.1) ∧ (∀ a b n q, z_own a b n ∈ al σ → gR σ a b n = some q → z_val σ q) ∧ ∀ a b n, aTy a = 17 → fits .byte (.int (gI σ a b n)) = true
def z_sl : List z_Ad → Nat
  | [] => 0
  | q :: l => (if q.1 < 16 then oN q.1 else aLen q.1) + z_sl l
def z_codes : List Int32 := [257, 280, 282, 272, 0]
def z_apps : List Int32 := [0, 0, 0, 4, 0]
/-- the constants, their rows, the script: in the heap, and not to be written -/
def z_RO (G : z_G) (A : Nat → Prop) (L : Nat) (xs : Nat → Int32) (U : State) (H : Heap) : Prop :=
  (va_X (G.2.2.2 (14, 0)) L xs U H ∧ G.2.2.2 (14, 0) < H.size ∧ ¬ A (G.2.2.2 (14, 0))) ∧ va_Z "QuotaPeers$Command" "ANSWERS" "LQuotaPeers$Command;" (.ref (G.2.2.2 (12, 4))) A U H ∧
  va_Ef 5 "QuotaPeers$Command" "code" "I" (fun i => .int (z_codes.getD i 0)) (fun i => G.2.2.2 (12, i)) A U H ∧ va_Ef 5 "QuotaPeers$Command" "application" "I" (fun i => .int (z_apps.getD i 0)) (fun i => G.2.2.2 (12, i)) A U H ∧
  va_Ef 5 "QuotaPeers$Command" "wants" "[I" (fun i => .ref (G.2.2.2 (13, i))) (fun i => G.2.2.2 (12, i)) A U H ∧ (∀ i, i < 5 → va_T .int (G.2.2.2 (13, i)) 5 (fun j => .int ((z_wants.getD i []).getD j 0)) A U H) ∧
  va_Z "QuotaPeers$Command" "$VALUES" "[LQuotaPeers$Command;" (.ref (G.2.2.2 (15, 0))) A U H ∧ ((∃ cell : Cell, H[G.2.2.2 (15, 0)]? = some cell ∧ cell.cls = G.2.2.1 26 ∧ cell.slots = (arrV (G.2.2.1 26) 5 (fun i => va_rf (if i < 5 then some (G.2.2.2 (12, i)) else none))).slots ∧ (∀ k, cell.vm ≠ .statics k) ∧ cell.vm ≠ .unknown) ∧ ¬ A (G.2.2.2 (15, 0)))
def z_isN : Cond → Bool
  | .fieldLinkNest _ _ _ _ _ _ => true
  | .methodLinkNest _ _ _ _ => true
  | .castable _ _ => true
  | .arrayOver (.object _) => true
  | _ => false
/-- what holds all through a method's body -/
def z_cx (own : String) (cc : ByteArray) (nL d : Nat) (G : z_G) (p : Program) (R : Room) (s : State) (m : MethodId) (args : Array Value) (meth : Method) (c : Code) (A : Nat → Prop) (σ0 σf : z_St) : Prop :=
  (p.tables.exec = Jvm.exec ∧ c.code = cc ∧ c.maxLocals = nL ∧ s.vm.findClass own = some m.cls) ∧ (∀ w ∈ lw_all, w.before args s = true) ∧ (∀ w ∈ lw_tbl, z_isN w = true → va_Nw w s) ∧
  va_K (z_D2 G) z_CL (z_tys G) s ∧ (∀ q : Nat, s.heap.size ≤ q → A q) ∧ (d + 1 ≤ R.frames ∧ 200 * (d + 1) ≤ R.locals) ∧ ((al σf).length - (al σ0).length ≤ R.cells ∧ z_sl (al σf) - z_sl (al σ0) ≤ R.slots)
def z_rel (G : z_G) (s : State) (A : Nat → Prop) (φ0 : z_Ad → Nat) (σ0 : z_St) (φ : z_Ad → Nat) (σ : z_St) (H : Heap) (locs : List Loc) : Prop :=
  va_P (z_D2 G) z_CL (z_ws G φ σ) H ∧ va_D A (z_ws G φ σ) ∧ va_S A s.heap H locs ∧ z_ok σ ∧ (∀ q : z_Ad, 12 ≤ q.1 → q.1 ≤ 15 → φ q = G.2.2.2 q) ∧ z_RO G A (cn σ 14) (gI σ 14 0) s s.heap ∧ al σ0 <+: al σ ∧ (∀ q, z_val σ0 q → φ q = φ0 q) ∧ cn σ 14 = cn σ0 14 ∧ gI σ 14 0 = gI σ0 14 0
def z_lr (φ : z_Ad → Nat) (lsA : z_L) (ls : Array Slot) (nL : Nat) : Prop := lv_has ls nL [] ∧ ∀ i v, z_get lsA i = some v → ls[i]? = some (.val (rv φ v))
def z_WW (p : Program) (l : Launch) (e : Env) (R : Room) (s : State) (m : MethodId) (args : Array Value) (below : List Frame) (meth : Method) (c : Code) (Q : State → Prop) (σ0 σ : z_St) (H : Heap) (locs : List Loc) (g : JFrame) : Prop :=
  W p l e R s m args below meth c H locs ((al σ).length - (al σ0).length) (z_sl (al σ) - z_sl (al σ0)) Q g
/-- an operation at pc, n bytes long, is sound -/
def z_SO (own : String) (cc : ByteArray) (nL : Nat) (ini : Bool) (d : Nat) (G : z_G) (l : Launch) (C : z_O) (pc n : Nat) (o : z_Op) : Prop :=
  ∀ (p : Program) (e : Env) (R : Room) (s : State) (m : MethodId) (args : Array Value) (below : List Frame) (meth : Method) (c : Code) (Q : State → Prop) (A : Nat → Prop) (φ0 : z_Ad → Nat) (σ0 σf : z_St) (r : Option z_V),
    z_cx own cc nL d G p R s m args meth c A σ0 σf → (ini = true → meth.name = "<init>") →
    ∀ (φ : z_Ad → Nat) (σ : z_St) (H : Heap) (locs : List Loc) (ls : Array Slot) (lsA : z_L) (st : List z_V), z_rel G s A φ0 σ0 φ σ H locs → z_lr φ lsA ls nL → z_vs σ lsA st →
    ∀ k : z_K, (∀ ls' st' σ', k ls' st' σ' = some (σf, r) → al σ' <+: al σf) → o C lsA st σ k = some (σf, r) →
    (∀ (φ' : z_Ad → Nat) (σ' : z_St) (H' : Heap) (locs' : List Loc) (ls' : Array Slot) (lsA' : z_L) (st' : List z_V), z_rel G s A φ0 σ0 φ' σ' H' locs' → z_lr φ' lsA' ls' nL → z_vs σ' lsA' st' → k lsA' st' σ' = some (σf, r) →
      z_WW p l e R s m args below meth c Q σ0 σ' H' locs' (F0 m (pc + n) ls' (st'.map (rv φ')))) →
    z_WW p l e R s m args below meth c Q σ0 σ H locs (F0 m pc ls (st.map (rv φ)))
/-! getting at what an operation did -/
theorem v_pI {F : Int32 → z_Op} {C : z_O} {ls : z_L} {st : List z_V} {σ : z_St} {k : z_K} {x : z_R} (h : pI F C ls st σ k = some x) : ∃ y st', st = .inl y :: st' ∧ F y C ls st' σ k = some x := by
  match st, h with
  | .inl y :: st', h => exact ⟨y, st', rfl, h⟩
  | [], h => cases h
  | .inr _ :: _, h => cases h
theorem v_pJ {F : Int64 → z_Op} {C : z_O} {ls : z_L} {st : List z_V} {σ : z_St} {k : z_K} {x : z_R} (h : pJ F C ls st σ k = some x) : ∃ y st', st = .inr (.inl y) :: st' ∧ F y C ls st' σ k = some x := by
  match st, h with
  | .inr (.inl y) :: st', h => exact ⟨y, st', rfl, h⟩
  | [], h => cases h
  | .inl _ :: _, h => cases h
  | .inr (.inr _) :: _, h => cases h
theorem v_pR {F : Option z_Ad → z_Op} {C : z_O} {ls : z_L} {st : List z_V} {σ : z_St} {k : z_K} {x : z_R} (h : pR F C ls st σ k = some x) : ∃ y st', st = .inr (.inr y) :: st' ∧ F y C ls st' σ k = some x := by
  match st, h with
  | .inr (.inr y) :: st', h => exact ⟨y, st', rfl, h⟩
  | [], h => cases h
  | .inl _ :: _, h => cases h
  | .inr (.inl _) :: _, h => cases h
theorem v_dr {r : Option z_Ad} {f : z_Ad → Option z_R} {x : z_R} (h : dr r f = some x) : ∃ q, r = some q ∧ f q = some x := by
  match r, h with
  | some q, h => exact ⟨q, rfl, h⟩
  | none, h => cases h
theorem v_pD {F : z_Ad → z_Op} {C : z_O} {ls : z_L} {st : List z_V} {σ : z_St} {k : z_K} {x : z_R} (h : pD F C ls st σ k = some x) : ∃ y st', st = .inr (.inr (some y)) :: st' ∧ F y C ls st' σ k = some x := by
  obtain ⟨r, st', rfl, h⟩ := v_pR h
  obtain ⟨q, rfl, h⟩ := v_dr h
  exact ⟨q, st', rfl, h⟩
theorem v_gd {b : Prop} [Decidable b] {y : Option z_R} {x : z_R} (h : gd b y = some x) : b ∧ y = some x := by
  by_cases hb : b
  · exact ⟨hb, (if_pos hb).symm.trans h⟩
  · have h := (if_neg hb).symm.trans h
    cases h
theorem v_ck {b : Prop} [Decidable b] {o : z_Op} {C : z_O} {ls : z_L} {st : List z_V} {σ : z_St} {k : z_K} {x : z_R} (h : ck b o C ls st σ k = some x) : b ∧ o C ls st σ k = some x := v_gd h
theorem v_cw {o : z_Op} {C : z_O} {ls : z_L} {st : List z_V} {σ : z_St} {k : z_K} {x : z_R} (h : cw o C ls st σ k = some x) : z_w st ≤ 8 ∧ o C ls st σ k = some x := v_gd h
theorem v_lI {n : Nat} {F : Int32 → z_Op} {C : z_O} {ls : z_L} {st : List z_V} {σ : z_St} {k : z_K} {x : z_R} (h : lI n F C ls st σ k = some x) : ∃ y, z_get ls n = some (.inl y) ∧ F y C ls st σ k = some x := by
  unfold lI at h
  match hg : z_get ls n, h with
  | some (.inl y), h => exact ⟨y, rfl, h⟩
  | none, h => cases h
  | some (.inr _), h => cases h
theorem v_lJ {n : Nat} {F : Int64 → z_Op} {C : z_O} {ls : z_L} {st : List z_V} {σ : z_St} {k : z_K} {x : z_R} (h : lJ n F C ls st σ k = some x) : ∃ y, z_get ls n = some (.inr (.inl y)) ∧ F y C ls st σ k = some x := by
  unfold lJ at h
  match hg : z_get ls n, h with
  | some (.inr (.inl y)), h => exact ⟨y, rfl, h⟩
  | none, h => cases h
  | some (.inl _), h => cases h
  | some (.inr (.inr _)), h => cases h
theorem v_lR {n : Nat} {F : Option z_Ad → z_Op} {C : z_O} {ls : z_L} {st : List z_V} {σ : z_St} {k : z_K} {x : z_R} (h : lR n F C ls st σ k = some x) : ∃ y, z_get ls n = some (.inr (.inr y)) ∧ F y C ls st σ k = some x := by
  unfold lR at h
  match hg : z_get ls n, h with
  | some (.inr (.inr y)), h => exact ⟨y, rfl, h⟩
  | none, h => cases h
  | some (.inl _), h => cases h
  | some (.inr (.inl _)), h => cases h
/-! what is valid stays valid -/
theorem vv_I (σ : z_St) (x : Int32) : z_vv σ (.inl x) := fun _ h => by cases h
theorem vv_J (σ : z_St) (x : Int64) : z_vv σ (.inr (.inl x)) := fun _ h => by cases h
theorem vv_0 (σ : z_St) : z_vv σ (.inr (.inr none)) := fun _ h => by cases h
theorem vv_R {σ : z_St} {q : z_Ad} (h : z_val σ q) : z_vv σ (.inr (.inr (some q))) := fun _ e => by cases e; exact h
theorem vv_r {σ : z_St} {r : Option z_Ad} (h : ∀ q, r = some q → z_val σ q) : z_vv σ (.inr (.inr r)) := fun q e => h q (by cases e; rfl)
theorem vs_pop {σ : z_St} {ls : z_L} {v : z_V} {st : List z_V} (h : z_vs σ ls (v :: st)) : z_vs σ ls st := ⟨h.1, fun w hw => h.2 w (List.mem_cons_of_mem _ hw)⟩
theorem vs_top {σ : z_St} {ls : z_L} {v : z_V} {st : List z_V} (h : z_vs σ ls (v :: st)) : z_vv σ v := h.2 v List.mem_cons_self
theorem vs_psh {σ : z_St} {ls : z_L} {v : z_V} {st : List z_V} (h : z_vs σ ls st) (hv : z_vv σ v) : z_vs σ ls (v :: st) := ⟨h.1, fun w hw => by
  rcases List.mem_cons.mp hw with e | e
  · rw [e]; exact hv
  · exact h.2 w e⟩
theorem val_mono {σ σ' : z_St} (h : al σ <+: al σ') {q : z_Ad} (hq : z_val σ q) : z_val σ' q := hq.elim (fun a => Or.inl (h.subset a)) Or.inr
theorem vs_mono {σ σ' : z_St} (h : al σ <+: al σ') {ls : z_L} {st : List z_V} (hv : z_vs σ ls st) : z_vs σ' ls st := ⟨fun i v hi q e => val_mono h (hv.1 i v hi q e), fun v hm q e => val_mono h (hv.2 v hm q e)⟩
theorem val_al {σ : z_St} {q : z_Ad} (h : z_val σ q) (ha : q.1 < 12 ∨ 16 ≤ q.1) : q ∈ al σ := by
  rcases h with h | h
  · exact h
  · omega
theorem rv_cat (φ : z_Ad → Nat) (v : z_V) : (rv φ v).category = z_cat v := by
  rcases v with x | x | r
  · rfl
  · rfl
  · cases r <;> rfl
theorem rv_w (φ : z_Ad → Nat) : ∀ st : List z_V, ((st.map (rv φ)).map fun v => v.category).sum = z_w st
  | [] => rfl
  | v :: st => by
    show (rv φ v).category + ((st.map (rv φ)).map fun v => v.category).sum = z_cat v + z_w st
    rw [rv_w φ st, rv_cat]
/-! locals -/
theorem get_set : ∀ (ls : z_L) (n i : Nat) (v : Option z_V), z_get (z_set ls n v) i = if i = n ∧ n < ls.length then v else z_get ls i
  | [], n, i, v => by
    rw [if_neg (by simp)]
    rfl
  | a :: l, 0, 0, v => by simp [z_get, z_set]
  | a :: l, 0, i + 1, v => by simp [z_get, z_set]
  | a :: l, n + 1, 0, v => by simp [z_get, z_set]
  | a :: l, n + 1, i + 1, v => by
    show z_get (z_set l n v) i = _
    rw [get_set l n i v]
    simp [z_get]
theorem get_lt : ∀ (ls : z_L) (i : Nat) (v : z_V), z_get ls i = some v → i < ls.length
  | [], _, _, h => by cases h
  | _ :: l, 0, _, _ => Nat.succ_pos _
  | _ :: l, i + 1, v, h => Nat.succ_lt_succ (get_lt l i v h)
theorem kill_cases (ls : z_L) (n : Nat) : (∃ x, z_get ls n = some (.inr (.inl x)) ∧ z_kill ls (n + 1) = z_set ls n none) ∨ ((∀ x, z_get ls n ≠ some (.inr (.inl x))) ∧ z_kill ls (n + 1) = ls) := by
  match h : z_get ls n with
  | none => exact .inr ⟨fun x e => (by cases e), by simp [z_kill, h]⟩
  | some (.inl y) => exact .inr ⟨fun x e => (by cases e), by simp [z_kill, h]⟩
  | some (.inr (.inr y)) => exact .inr ⟨fun x e => (by cases e), by simp [z_kill, h]⟩
  | some (.inr (.inl y)) => exact .inl ⟨y, rfl, by simp [z_kill, h]⟩
theorem get_kill {ls : z_L} {n i : Nat} {u : z_V} (h : z_get (z_kill ls n) i = some u) : z_get ls i = some u ∧ ¬ (i + 1 = n ∧ z_cat u = 2) := by
  cases n with
  | zero => exact ⟨h, fun q => by omega⟩
  | succ n =>
    rcases kill_cases ls n with ⟨x, h1, h2⟩ | ⟨h1, h2⟩
    · rw [h2, get_set] at h
      by_cases hi : i = n ∧ n < ls.length
      · rw [if_pos hi] at h
        cases h
      · rw [if_neg hi] at h
        exact ⟨h, fun q => hi ⟨by omega, get_lt _ _ _ h1⟩⟩
    · rw [h2] at h
      refine ⟨h, fun q => ?_⟩
      have e : i = n := by omega
      subst e
      rcases u with x | x | x
      · have := q.2; simp [z_cat] at this
      · exact h1 x h
      · have := q.2; simp [z_cat] at this
theorem get_mask : ∀ (m : List Bool) (ls : z_L) (i : Nat) (u : z_V), z_get (z_mask m ls) i = some u → z_get ls i = some u
  | true :: m, a :: l, 0, u, h => h
  | false :: m, a :: l, 0, u, h => by cases h
  | true :: m, a :: l, i + 1, u, h => get_mask m l i u h
  | false :: m, a :: l, i + 1, u, h => get_mask m l i u h
  | [], _, _, _, h => by cases h
  | true :: _, [], _, _, h => by cases h
  | false :: _, [], _, _, h => by cases h
def z_prs (φ : z_Ad → Nat) (lsA : z_L) : List (Nat × Value) := (List.range lsA.length).filterMap fun i => (z_get lsA i).map fun v => (i, rv φ v)
theorem mem_prs {φ : z_Ad → Nat} {lsA : z_L} {q : Nat × Value} : q ∈ z_prs φ lsA ↔ ∃ v, z_get lsA q.1 = some v ∧ q.2 = rv φ v := by
  unfold z_prs
  rw [List.mem_filterMap]
  constructor
  · rintro ⟨i, -, h⟩
    cases hg : z_get lsA i with
    | none => rw [hg] at h; cases h
    | some v =>
      rw [hg] at h
      cases h
      exact ⟨v, hg, rfl⟩
  · rintro ⟨v, h1, h2⟩
    refine ⟨q.1, List.mem_range.mpr (get_lt _ _ _ h1), ?_⟩
    rw [h1]
    show some (q.1, rv φ v) = some q
    rw [← h2]
theorem lr_prs {φ : z_Ad → Nat} {lsA : z_L} {ls : Array Slot} {nL : Nat} (h : z_lr φ lsA ls nL) : lv_has ls nL (z_prs φ lsA) := by
  refine ⟨h.1.1, h.1.2.1, fun q hq => ?_⟩
  obtain ⟨v, h1, h2⟩ := mem_prs.mp hq
  rw [h2]
  exact h.2 _ _ h1
theorem lr_st1 {φ : z_Ad → Nat} {lsA : z_L} {ls : Array Slot} {nL i : Nat} {v : z_V} {w : Value} (hw : rv φ v = w) (h : lv_has ls nL ((i, w) :: (z_prs φ lsA).filter (fun q => !(q.1 == i) && !(q.1 + 1 == i && q.2.category == 2)))) : z_lr φ (z_st1 lsA i v) ls nL := by
  refine ⟨⟨h.1, h.2.1, fun q hq => by cases hq⟩, fun j u hj => ?_⟩
  unfold z_st1 at hj
  rw [get_set] at hj
  by_cases hji : j = i ∧ i < (z_kill lsA i).length
  · rw [if_pos hji] at hj
    cases hj
    rw [hji.1, hw]
    exact h.2.2 (i, w) List.mem_cons_self
  · rw [if_neg hji] at hj
    obtain ⟨h1, h2⟩ := get_kill hj
    have hlt := get_lt _ _ _ hj
    have hne : j ≠ i := fun e => hji ⟨e, by omega⟩
    refine h.2.2 (j, rv φ u) (List.mem_cons_of_mem _ (List.mem_filter.mpr ⟨mem_prs.mpr ⟨u, h1, rfl⟩, ?_⟩))
    have e1 : (j == i) = false := by simp [hne]
    by_cases e2 : j + 1 = i
    · have e3 : ¬ z_cat u = 2 := fun e => h2 ⟨e2, e⟩
      simp [e1, rv_cat, e3]
    · simp [e1, e2]
theorem lr_st2 {φ : z_Ad → Nat} {lsA : z_L} {ls : Array Slot} {nL i : Nat} {v : z_V} {w : Value} (hw : rv φ v = w) (h : lv_has ls nL ((i, w) :: (z_prs φ lsA).filter (fun q => !(q.1 == i) && (!(q.1 == i + 1) && !(q.1 + 1 == i && q.2.category == 2))))) : z_lr φ (z_st2 lsA i v) ls nL := by
  refine ⟨⟨h.1, h.2.1, fun q hq => by cases hq⟩, fun j u hj => ?_⟩
  unfold z_st2 at hj
  rw [get_set] at hj
  by_cases hji : j = i ∧ i < (z_set (z_kill lsA i) (i + 1) none).length
  · rw [if_pos hji] at hj
    cases hj
    rw [hji.1, hw]
    exact h.2.2 (i, w) List.mem_cons_self
  · rw [if_neg hji] at hj
    have hlt := get_lt _ _ _ hj
    have hne : j ≠ i := fun e => hji ⟨e, by omega⟩
    rw [get_set] at hj
    by_cases hj2 : j = i + 1 ∧ i + 1 < (z_kill lsA i).length
    · rw [if_pos hj2] at hj
      cases hj
    · rw [if_neg hj2] at hj
      have hlt2 := get_lt _ _ _ hj
      have hne2 : j ≠ i + 1 := fun e => hj2 ⟨e, by omega⟩
      obtain ⟨h1, h2⟩ := get_kill hj
      refine h.2.2 (j, rv φ u) (List.mem_cons_of_mem _ (List.mem_filter.mpr ⟨mem_prs.mpr ⟨u, h1, rfl⟩, ?_⟩))
      have e1 : (j == i) = false := by simp [hne]
      have e4 : (j == i + 1) = false := by simp [hne2]
      by_cases e2 : j + 1 = i
      · have e3 : ¬ z_cat u = 2 := fun e => h2 ⟨e2, e⟩
        simp [e1, e4, rv_cat, e3]
      · simp [e1, e4, e2]
theorem lr_mask {φ : z_Ad → Nat} {lsA : z_L} {ls : Array Slot} {nL : Nat} (m : List Bool) (h : z_lr φ lsA ls nL) : z_lr φ (z_mask m lsA) ls nL := ⟨h.1, fun i v hi => h.2 i v (get_mask m lsA i v hi)⟩
theorem vs_mask {σ : z_St} {ls : z_L} {st : List z_V} (m : List Bool) (h : z_vs σ ls st) : z_vs σ (z_mask m ls) st := ⟨fun i v hi => h.1 i v (get_mask m ls i v hi), h.2⟩
theorem vs_st1 {σ : z_St} {ls : z_L} {st : List z_V} {n : Nat} {v : z_V} (h : z_vs σ ls st) (hv : z_vv σ v) : z_vs σ (z_st1 ls n v) st := by
  refine ⟨fun i u hi => ?_, h.2⟩
  unfold z_st1 at hi
  rw [get_set] at hi
  split at hi
  · cases hi; exact hv
  · exact h.1 i u (get_kill hi).1
theorem vs_st2 {σ : z_St} {ls : z_L} {st : List z_V} {n : Nat} {v : z_V} (h : z_vs σ ls st) (hv : z_vv σ v) : z_vs σ (z_st2 ls n v) st := by
  refine ⟨fun i u hi => ?_, h.2⟩
  unfold z_st2 at hi
  rw [get_set] at hi
  split at hi
  · cases hi; exact hv
  · rw [get_set] at hi
    split at hi
    · cases hi
    · exact h.1 i u (get_kill hi).1
/-! the world's list -/
theorem ws_at {G : z_G} {φ : z_Ad → Nat} {σ : z_St} {q : z_Ad} (h : q ∈ al σ) : ∃ i : Nat, (al σ)[i]? = some q ∧ (z_ws G φ σ)[i]? = some (φ q, z_cell G φ σ q) := by
  obtain ⟨i, hi⟩ := List.getElem?_of_mem h
  exact ⟨i, hi, by unfold z_ws; rw [List.getElem?_map, hi]; rfl⟩
theorem ws_set {G : z_G} {φ : z_Ad → Nat} {σ σ' : z_St} {q : z_Ad} {i : Nat} (hn : (al σ).Nodup) (hal : al σ' = al σ) (hi : (al σ)[i]? = some q) (hc : ∀ q' ∈ al σ, q' ≠ q → z_cell G φ σ' q' = z_cell G φ σ q') : (z_ws G φ σ).set i (φ q, z_cell G φ σ' q) = z_ws G φ σ' := by
  unfold z_ws
  rw [hal]
  apply List.ext_getElem?
  intro j
  rw [List.getElem?_set]
  by_cases hij : i = j
  · subst hij
    rw [if_pos rfl, List.getElem?_map, hi]
    have hl := (List.getElem?_eq_some_iff.mp hi).1
    rw [if_pos (by rw [List.length_map]; exact hl)]
    rfl
  · rw [if_neg hij, List.getElem?_map, List.getElem?_map]
    cases hj : (al σ)[j]? with
    | none => rfl
    | some q' =>
      have hne : q' ≠ q := by
        intro e
        subst e
        exact hij ((List.getElem?_inj (List.getElem?_eq_some_iff.mp hi).1 hn).mp (hi.trans hj.symm))
      show some (φ q', z_cell G φ σ q') = some (φ q', z_cell G φ σ' q')
      rw [hc q' (List.mem_of_getElem? hj) hne]
theorem fs_at {φ : z_Ad → Nat} {σ : z_St} {a b n : Nat} (hb : b < oN a) : (z_fs φ σ a n)[b]? = some (z_fv φ σ a b n) := by
  unfold z_fs
  rw [List.getElem?_map, List.getElem?_range hb]
  rfl
theorem fs_set {φ : z_Ad → Nat} {σ σ' : z_St} {a b n : Nat} (h : ∀ b', b' ≠ b → z_fv φ σ' a b' n = z_fv φ σ a b' n) : (z_fs φ σ a n).set b (z_fv φ σ' a b n) = z_fs φ σ' a n := by
  apply List.ext_getElem?
  intro j
  rw [List.getElem?_set]
  by_cases hj : j < oN a
  · by_cases hbj : b = j
    · subst hbj
      rw [if_pos rfl, fs_at hj, if_pos (by unfold z_fs; rw [List.length_map, List.length_range]; exact hj)]
    · rw [if_neg hbj, fs_at hj, fs_at hj, h j (fun e => hbj e.symm)]
  · have l1 : ∀ τ, (z_fs φ τ a n).length = oN a := fun τ => by unfold z_fs; rw [List.length_map, List.length_range]
    rw [List.getElem?_eq_none (by rw [l1]; omega), List.getElem?_eq_none (by rw [l1]; omega), l1]
    split
    · rw [if_neg (by omega)]
    · rfl
