/-! PART 29: steps of their own, what a run comes to -/
noncomputable abbrev zD (d : Nat) : z_O := z_D z_pg z_nl d
def asI (v : z_V) (f : Int32 → Option z_R) : Option z_R := match v with
  | .inl x => f x
  | _ => none
def asJ (v : z_V) (f : Int64 → Option z_R) : Option z_R := match v with
  | .inr (.inl x) => f x
  | _ => none
def asR (v : z_V) (f : Option z_Ad → Option z_R) : Option z_R := match v with
  | .inr (.inr x) => f x
  | _ => none
/-- one place of the memory written -/
def wI (σ : z_St) (a b n : Nat) (x : Int32) : z_St := rI σ a b (va_up (gI σ a b) n x)
def wJ (σ : z_St) (a b n : Nat) (x : Int64) : z_St := rJ σ a b (va_up (gJ σ a b) n x)
def wR (σ : z_St) (a b n : Nat) (x : Option z_Ad) : z_St := rR σ a b (va_up (gR σ a b) n x)
def sw (s : z_St) (f : z_St → Option z_R) : Option z_R := f s
theorem zm (d : Nat) : z_mono (zD d) := z_D_mono pg_tame d
/-- a run ends, and so -/
def wp (o : Option z_R) (Q : z_St → Option z_V → Prop) : Prop := ∃ σ r, o = some (σ, r) ∧ Q σ r
theorem wp_ret {σ : z_St} {r : Option z_V} {Q : z_St → Option z_V → Prop} (h : Q σ r) : wp (some (σ, r)) Q := ⟨σ, r, rfl, h⟩
theorem wp_eq {o o' : Option z_R} {Q : z_St → Option z_V → Prop} (e : o = o') (h : wp o' Q) : wp o Q := e ▸ h
theorem wp_gd {c : Prop} [Decidable c] {x : Option z_R} {Q : z_St → Option z_V → Prop} (hc : c) (h : wp x Q) : wp (gd c x) Q := by
  rw [show gd c x = x from if_pos hc]
  exact h
theorem wp_dr {r : Option z_Ad} {q : z_Ad} {f : z_Ad → Option z_R} {Q : z_St → Option z_V → Prop} (hr : r = some q) (h : wp (f q) Q) : wp (dr r f) Q := by
  rw [hr]
  exact h
theorem wp_sw {s : z_St} {f : z_St → Option z_R} {Q : z_St → Option z_V → Prop} (h : wp (f s) Q) : wp (sw s f) Q := h
theorem wp_cv {o : Option z_R} {f : z_St → Option z_R} {Q : z_St → Option z_V → Prop} (h : wp o fun σ r => r = none ∧ wp (f σ) Q) : wp (cv o f) Q := by
  obtain ⟨σ, r, rfl, rfl, h⟩ := h
  exact h
theorem wp_cr {o : Option z_R} {f : z_St → z_V → Option z_R} {Q : z_St → Option z_V → Prop} (h : wp o fun σ r => ∃ v, r = some v ∧ wp (f σ v) Q) : wp (cr o f) Q := by
  obtain ⟨σ, r, rfl, v, rfl, h⟩ := h
  exact h
theorem wp_if {c : Prop} [Decidable c] {a b : Option z_R} {Q : z_St → Option z_V → Prop} (h1 : c → wp a Q) (h2 : ¬ c → wp b Q) : wp (if c then a else b) Q := by
  by_cases h : c
  · rw [if_pos h]; exact h1 h
  · rw [if_neg h]; exact h2 h
theorem wp_mono {o : Option z_R} {Q Q' : z_St → Option z_V → Prop} (h : wp o Q) (hq : ∀ σ r, Q σ r → Q' σ r) : wp o Q' := by
  obtain ⟨σ, r, e, h⟩ := h
  exact ⟨σ, r, e, hq _ _ h⟩
theorem dr_cong {r : Option z_Ad} {f g : z_Ad → Option z_R} (h : ∀ q, f q = g q) : dr r f = dr r g := by rw [show f = g from funext h]
theorem gd_cong {c : Prop} [Decidable c] {x y : Option z_R} (h : x = y) : gd c x = gd c y := by rw [h]
theorem sw_cong {s : z_St} {f g : z_St → Option z_R} (h : ∀ q, f q = g q) : sw s f = sw s g := h s
theorem cv_cong {o : Option z_R} {f g : z_St → Option z_R} (h : ∀ q, f q = g q) : cv o f = cv o g := by rw [show f = g from funext h]
theorem cr_cong {o : Option z_R} {f g : z_St → z_V → Option z_R} (h : ∀ q v, f q v = g q v) : cr o f = cr o g := by rw [show f = g from funext fun q => funext fun v => h q v]
