set_option maxRecDepth 100000
/-! THE CLAIM OUT OF ONE WALK OF THE LAW'S BODY. Your part is whole_start (and what it stands on); all else here is the same for every law, but numbers. -/
def R_law : String := "QuotaPeersLaw"
def lw_P (b : Addr) (xs : List Int32) (args : Array Value) (s : State) : Prop := args = #[.ref b] ∧ s.IntsAt b xs ∧ xs.length ≤ 704 ∧ (Jvm.Cond.and given_1 narrow_1).before args s = true
def lw_Q (_ : Array Value) (s : State) (o : Outcome) (t : State) : Prop := o = .returned (some (.int 1)) ∧ Framed s o t [] 600000 7302250
def lw_Z (below : List Frame) (a : Array Value) (s : State) : State → Prop := fun t => ∃ o, t.status = .running ∧ Ended t below o ∧ lw_Q a s o t
/-- the law's own end, with 1 on the stack, nothing written that was there before, its room as the claim has it -/
theorem lw_ret {p : Program} {l : Launch} {e : Env} {s : State} {m : MethodId} {below : List Frame} {meth : Method} {c : Code} {b : Nat} (hx : p.tables.exec = Jvm.exec) (hb : c.code = code) (hr : meth.sig.returnType = ret) (hlocks : meth.locks = false) {pc : Nat} {H : Heap} {ls : Array Slot} (hdg : decode code pc = .ok (.ireturn, 1)) : W p l e room_1 s m #[Value.ref b] below meth c H [] 600000 7302250 (lw_Z below #[Value.ref b] s) (F0 m pc ls [.int 1]) := by
  intro T hT X
  obtain ⟨fs, hret, hrun, hended, hW, hframe⟩ := X.leave (v := some (.int 1)) (hlocks := hlocks) (fun h => by rw [hr] at h; cases h)
  have hmeth' : T.vm.method? m = some meth := X.method'
  refine ⟨T.setFrames fs, ?_, .returned (some (.int 1)), hrun, hended, rfl, ⟨_, rfl⟩, hW, hframe⟩
  jvm_step X.here [X.here.top, hx, hb, hdg, hmeth', hr, ret, narrow_b1]
  (try refine ⟨rfl, ?_⟩); (try refine ⟨rfl, ?_⟩)
  first | (intro acts; rw [hret _ acts rfl rfl rfl]) | rw [hret _ _ rfl rfl rfl]
  exact Steps.refl _
/-- what holds at the law's entry: the machine, the code, the tables' words (any of lw_tbl by 'hts w (by decide +kernel)'), the script of L ints xs at the cell b, what the Statement gives of the start (any of its parts by flat_of_before) -/
def lw_At (p : Program) (s : State) (m : MethodId) (meth : Method) (c : Code) (b L : Nat) (xs : Nat → Int32) : Prop :=
  p.tables.exec = Jvm.exec ∧ c.code = code ∧ meth.sig.returnType = ret ∧ c.maxLocals = 4 ∧ s.vm.findClass R_law = some m.cls ∧ (∀ w ∈ lw_tbl, w.before #[Value.ref b] s = true) ∧ va_X b L xs s s.heap ∧ b < s.heap.size ∧ meth.locks = false ∧ (Jvm.Cond.and given_1 narrow_1).before #[Value.ref b] s = true
theorem nw_of {w : Cond} (hw : z_isN w = true) {a : Array Value} {s : State} (h : w.before a s = true) : va_Nw w s := by
  cases w <;> first | (cases hw; done) | exact va_Nw.of rfl h | skip
  rename_i ty
  cases ty <;> first | (cases hw; done) | exact va_AO.of h
set_option maxHeartbeats 400000 in
/-- whole_start's goal, out of the simple machine's run -/
theorem whole_of {p : Program} {e : Env} {s : State} {m : MethodId} {below : List Frame} {meth : Method} {c : Code} (l : Launch) {b L : Nat} {xs : Nat → Int32} (C0 : lw_At p s m meth c b L xs) {d : Nat} (hd : d ≤ 400) {σ0 σf : z_St} (h0 : al σ0 = []) (hL : cn σ0 14 = L) (hxs : gI σ0 14 0 = xs) (hfit : ∀ a b n, aTy a = 17 → fits .byte (.int (gI σ0 a b n)) = true)
    (hE : E xP248 (z_D z_pg z_nl d) 0 [some (.inr (.inr (some (14, 0)))), none, none, none] [] σ0 = some (σf, some (.inl 1))) (hc : (al σf).length ≤ 600000) (hsl : z_sl (al σf) ≤ 7302250) : W p l e room_1 s m #[Value.ref b] below meth c s.heap [] 0 0 (lw_Z below #[Value.ref b] s) (entryFrame m ([Value.ref b] : List Value).toArray 4) := by
  obtain ⟨hx, hb, hr, hml, hown, hts, hX, hbl, hlocks, hgv⟩ := C0
  obtain ⟨dC, dI, dA, hK⟩ := start_K hts
  obtain ⟨fR, hfb, hRO⟩ := start_RO hts hgv hX hbl hK
  have hC := HC_all l (dC, dI, dA, fR) d
  obtain ⟨n, hn⟩ := (E_iff (sm_tame (xm248 hC)) hC.1).mp hE
  have hws : z_ws (dC, dI, dA, fR) fR σ0 = [] := by unfold z_ws; rw [h0]; rfl
  have hrel : z_rel (dC, dI, dA, fR) s (fun q => s.heap.size ≤ q) fR σ0 fR σ0 s.heap [] := by
    refine ⟨by rw [hws]; intro k q hq; cases hq, by rw [hws]; exact ⟨fun i j x y hi => by cases hi, fun k q hq => by cases hq⟩, va_S.rf, ⟨by rw [h0]; exact List.nodup_nil, by rw [h0]; intro q hq; cases hq, fun a b n q ho => by rw [h0] at ho; cases ho, hfit⟩, fun _ _ _ => rfl, by rw [hL, hxs]; exact hRO, List.prefix_rfl, fun _ _ => rfl, rfl, rfl⟩
  have hl := lv_entry ([.ref b]) (n := 4) (Nat.le_of_ble_eq_true rfl)
  rw [lg_entry_eq]
  generalize (lg_sl ([.ref b]) ++ List.replicate (4 - (lg_sl ([.ref b])).length) Slot.unset).toArray = ls at hl ⊢
  have hlr : z_lr fR [some (.inr (.inr (some (14, 0)))), none, none, none] ls 4 := by
    refine ⟨⟨hl.1, hl.2.1, fun q hq => by cases hq⟩, fun i v hi => ?_⟩
    match i, hi with
    | 0, hi =>
      cases hi
      show ls[0]? = some (.val (.ref (fR (14, 0))))
      rw [hfb]
      exact hl.2.2 (0, .ref b) List.mem_cons_self
    | 1, hi => cases hi
    | 2, hi => cases hi
    | 3, hi => cases hi
    | i + 4, hi => cases hi
  have hvs : z_vs σ0 [some (.inr (.inr (some (14, 0)))), none, none, none] [] := by
    refine ⟨fun i v hi => ?_, fun v hv => by cases hv⟩
    match i, hi with
    | 0, hi =>
      cases hi
      exact vv_R (Or.inr ⟨show 12 ≤ 14 by decide, show 14 ≤ 15 by decide⟩)
    | 1, hi => cases hi
    | 2, hi => cases hi
    | 3, hi => cases hi
    | i + 4, hi => cases hi
  have hcx : z_cx "QuotaPeersLaw" code 4 d (dC, dI, dA, fR) p room_1 s m #[Value.ref b] meth c (fun q => s.heap.size ≤ q) σ0 σf := by
    refine ⟨⟨hx, hb, hml, hown⟩, fun w h => hts w (lw_all_tbl h), fun w hw hn => nw_of hn (hts w hw), hK fR, fun q h => h, ⟨?_, ?_⟩, ⟨?_, ?_⟩⟩
    · show d + 1 ≤ 8192
      omega
    · show 200 * (d + 1) ≤ 100000
      omega
    · show _ ≤ 600000
      exact Nat.le_trans (Nat.sub_le _ _) hc
    · show _ ≤ 7302250
      exact Nat.le_trans (Nat.sub_le _ _) hsl
  have hRH : z_RH (some .boolean) code (dC, dI, dA, fR) p l e room_1 s m #[Value.ref b] below meth c (lw_Z below #[Value.ref b] s) (fun q => s.heap.size ≤ q) fR σ0 σf (some (.inl 1)) := by
    intro φ H locs ls2 pc hdec hrt hrel2 hv
    unfold z_WW
    refine va_forget (fun q hq => hrel2.2.2.1.2.2 q hq) (W.widen (k := 600000) (n := 7302250) (Nat.le_trans (Nat.sub_le _ _) hc) (Nat.le_trans (Nat.sub_le _ _) hsl) ?_)
    exact lw_ret hx hb hr hlocks hdec
  have key := sm_it hC.1 (xm248 hC) hcx (fun h => by cases h) hRH n 0 fR σ0 s.heap [] ls _ [] hn hrel hlr hvs
  unfold z_WW at key
  rw [Nat.sub_self, Nat.sub_self] at key
  exact key
theorem whole_start {p : Program} {e : Env} {s : State} {m : MethodId} {below : List Frame} {meth : Method} {c : Code} (l : Launch) (hflags : l.flags = flags0) {b L : Nat} {xs : Nat → Int32} (hL : L ≤ 704) (C0 : lw_At p s m meth c b L xs) : W p l e room_1 s m #[Value.ref b] below meth c s.heap [] 0 0 (lw_Z below #[Value.ref b] s) (entryFrame m ([Value.ref b] : List Value).toArray 4) := by
  obtain ⟨d, σ0, σf, h1, h2, h3, h4, h5, h6, h7, h8⟩ := law_main L xs hL
  exact whole_of l C0 h1 h2 h3 h4 h5 h6 h7 h8
set_option maxHeartbeats 4000000 in
theorem lw_walk (l : Launch) (hflags : l.flags = flags0) (b : Addr) (xs : List Int32) : MetFree l x (headSpec (Jvm.Cond.code x code maxLocals ret :: tables_1) room_1) (lw_P b xs) (fun _ _ _ _ _ => True) lw_Q := by
  refine MetFree.of_bodyS (code := code) (maxLocals := maxLocals) (ret := ret) (by decide) ?_ ?_
  · intro args s m h hn
    obtain ⟨meth, c, h1, h2, h3, h4, h5, h6, -, -⟩ := Cond.code_spec hn (atoms_spec (ws := Jvm.Cond.code x code maxLocals ret :: tables_1) h _ List.mem_cons_self)
    exact ⟨meth, c, h1, h2, h3, h4, h5, h6⟩
  · intro p e s m args below meth c s₁ B hml0 hP _
    obtain ⟨rfl, hx, hbd, hgv⟩ := hP
    obtain ⟨scr, harrAt, hlist, hof, hsmall⟩ := hx
    obtain ⟨hcb, hkn, -, -⟩ := State.arrayAt?_spec harrAt
    have hown : s.vm.findClass R_law = some m.cls := findClass_of_methodNamed B.named
    have hts0 : ∀ c ∈ (Jvm.Cond.code x code maxLocals ret :: tables_1), c.before #[Value.ref b] s = true := atoms_spec (ws := Jvm.Cond.code x code maxLocals ret :: tables_1) B.pre
    have hts : ∀ w ∈ lw_tbl, w.before #[Value.ref b] s = true := k2_hts_sels lw_privs (fun w hw => hts0 w (List.mem_cons_of_mem _ hw)) lw_privs_ok
    have hml : c.maxLocals = 4 := B.maxLocals_eq (hts0 _ List.mem_cons_self)
    have X₀ : Stand p l e room_1 s m #[Value.ref b] below meth c s₁ [] 0 0 := Stand.of_body B
    have hh0 : s₁.heap = s.heap := by rw [B.state]; rfl
    have hsz : scr.slots.size = xs.length := by rw [← Array.length_toList, hlist, List.length_map]
    have hval : ∀ j : Nat, j < xs.length → scr.slots[j]? = some (.int (xs.getD j 0)) := fun j hj => by
      rw [← Array.getElem?_toList, hlist]
      simp [hj]
    have hbl : b < s.heap.size := (Array.getElem?_eq_some_iff.mp hcb).1
    have hX : va_X b xs.length (fun j => xs.getD j 0) s s.heap := ⟨scr, hcb, hof, hkn, hsz, hval⟩
    have K : W p l e room_1 s m #[Value.ref b] below meth c s₁.heap [] 0 0 (lw_Z below #[Value.ref b] s) (entryFrame m ([Value.ref b] : List Value).toArray 4) := by
      rw [hh0]
      exact whole_start l hflags hbd ⟨B.exec, B.bytes, B.returns, hml, hown, hts, hX, hbl, B.notSynchronized, hgv⟩
    obtain ⟨t, a1, o, b1, b2, b3⟩ := K s₁ rfl X₀
    exact ⟨t, o, a1, b1, b2, b3⟩
theorem lw_pre_spec {args : Array Value} {s : State} (h : (Jvm.Cond.and given_1 narrow_1).before args s = true) (hr : rest_1_c.before args s = true) : ∃ (b : Addr) (xs : List Int32), lw_P b xs args s := by
  have hs := flat_of_before _ h
  have hq := flat_of_before _ hr
  have hc : (Cond.count 1).before args s = true := hs _ (by decide +kernel)
  have harr : (Cond.arrayOf (.arg 0) .int).before args s = true := hs _ (by decide +kernel)
  have hle : (Cond.le (.length (.arg 0)) (.int 704)).before args s = true := hs _ (by decide +kernel)
  have hlen : (Cond.isInt (.length (.arg 0))).before args s = true := hq _ (by decide +kernel)
  have hall : (Cond.all (.arg 0) (.isInt (.elem (.arg 0) (.index 0)))).before args s = true := hq _ (by decide +kernel)
  obtain ⟨b, xs, hb, hx⟩ := State.ints_of_pre rfl harr hlen hall
  have hsm : xs.length < 2 ^ 31 := hx.choose_spec.2.2.2
  have hev : (Term.length (.arg 0)).eval args s none [] s = some (.int xs.length.toInt32) := hx.length_eval hb
  have hv := Cond.le_ints hev (show (Term.int 704).eval args s none [] s = some (.int 704) from rfl)
  have hd : xs.length.toInt32 ≤ 704 := by
    simpa [Cond.before, Cond.holds, hv] using hle
  have hN : xs.length ≤ 704 := (Int32.ofNat_le_ofNat hsm (by decide)).mp (show Int32.ofNat xs.length ≤ Int32.ofNat 704 from hd)
  exact ⟨b, xs, Cond.one_arg hc (show args[0]? = some (.ref b) from hb), hx, hN, h⟩
theorem lw_comes (l : Launch) (hflags : l.flags = flags0) : Comes l x (Jvm.Cond.code x code maxLocals ret :: tables_1) room_1 (fun tb e args s => Calls_1 tb e args s ∧ rest_1 tb e args s ∧ Pre_1 tb e args s)
    (fun _ _ args s o t => lw_Q args s o t) := by
  intro p e ha hc hk s m args below hf hfit hheap happ hpre
  obtain ⟨b, xs, hP⟩ := lw_pre_spec hpre.2.2 hpre.2.1
  obtain ⟨k, o, h1, h2, h3, hQ⟩ := lw_walk l hflags b xs p e ha hc hk s m args below hf ((Spec.applies_iff_loose hf).mp happ).1 hP trivial
  exact ⟨k, o, h1, h2, h3, hQ⟩
theorem lw_frame {s t : State} {o : Outcome} {args : Array Value} (h : Framed s o t [] 600000 7302250) :
    Framed s o t (fieldLocs frame_1_writes args s ++ arrayLocs frame_1_arrays args s ++ staticLocs frame_1_statics s) 600000 7302250 := h
theorem lw_limb (L : Cond) (hL : ∀ (args : Array Value) (s t : State), L.after args s (.returned (some (.int 1))) t = true) :
    ArmFor flags0 classFile x code maxLocals ret World_1 tables_1 room_1 Calls_1 rest_1 Pre_1
      (fun tb e a s o t => postC L tb e a s o t ∧ Framed s o t (fieldLocs frame_1_writes a s ++ arrayLocs frame_1_arrays a s ++ staticLocs frame_1_statics s) 600000 7302250) := by
  intro l hflags _ _ p e ha hc hk s m args below hf hfit hheap happ hpre
  obtain ⟨k, o, h1, h2, h3, rfl, hF⟩ := lw_comes l hflags p e ha hc hk s m args below hf hfit hheap happ hpre
  exact ⟨k, _, h1, h2, h3, hL args s _, lw_frame hF⟩
theorem i_vc : Claimed_1_1 ∧ Claimed_1_2 := ⟨lw_limb limb_1_1 (fun args s t => by simp [limb_1_1, Cond.after, Cond.holds, Cond.value]), lw_limb limb_1_2 (fun args s t => Cond.after_iff.mpr (by
  first | (rw [show limb_1_2 = Cond.eq .result (.int 1) from rfl, Cond.eq_ints (x := 1) (y := 1) rfl rfl]; simp; done) | (simp [limb_1_2, Cond.value, Term.eval]; done)))⟩
