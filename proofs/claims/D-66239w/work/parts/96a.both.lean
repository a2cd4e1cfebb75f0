/-! PART 96a (src 96a.both.src): one after the other: component and twin -/
set_option maxHeartbeats 800000
set_option maxRecDepth 10000
def z_isMb (a : Nat) : Bool := decide (a = 8) || (decide (7 ≤ a / 1048576) && decide (a / 1048576 ≤ 68))
theorem isMb {a : Nat} : z_isMb a = true ↔ z_isM a := by
  unfold z_isMb z_isM
  simp
/-- the twin's memory of σ, the rest of σ' -/
def z_mx (σ σ' : z_St) : z_St := (σ'.1, σ'.2.1, fun a => if z_isMb a = true then gI σ a else gI σ' a, fun a => if z_isMb a = true then gJ σ a else gJ σ' a, fun a => if z_isMb a = true then gR σ a else gR σ' a)
theorem mx_eq {σ σ' : z_St} (e : ∀ a, z_isM a → gI σ' a = gI σ a ∧ gJ σ' a = gJ σ a ∧ gR σ' a = gR σ a) : z_mx σ σ' = σ' := by
  have e1 : (fun a => if z_isMb a = true then gI σ a else gI σ' a) = gI σ' := by
    funext a
    split
    · rename_i h; exact (e a (isMb.mp h)).1.symm
    · rfl
  have e2 : (fun a => if z_isMb a = true then gJ σ a else gJ σ' a) = gJ σ' := by
    funext a
    split
    · rename_i h; exact (e a (isMb.mp h)).2.1.symm
    · rfl
  have e3 : (fun a => if z_isMb a = true then gR σ a else gR σ' a) = gR σ' := by
    funext a
    split
    · rename_i h; exact (e a (isMb.mp h)).2.2.symm
    · rfl
  unfold z_mx
  rw [e1, e2, e3]
  rfl
theorem m_tr {T σ σ' : z_St} {A : w_A} (h : w_M T σ A) (e : ∀ a, z_isM a → gI σ' a = gI σ a ∧ gJ σ' a = gJ σ a ∧ gR σ' a = gR σ a) : w_M σ' σ' A := by
  obtain ⟨hT, hA, hB, hC, hD, hG, hH, hI, hJ, hK, hL, hM, hN⟩ := h
  have h2 : w_M (z_mx σ σ') (z_mx σ σ') A := ⟨⟨fun _ _ => ⟨rfl, rfl, rfl⟩, rfl, rfl⟩, hA, hB, hC, hD, hG, hH, hI, hJ, hK, hL, hM, hN⟩
  rw [mx_eq e] at h2
  exact h2
theorem x_tr {T σ σ' : z_St} {A : w_A} (h : w_X T σ A) (e : ∀ a, ¬ z_isM a → gI σ' a = gI σ a ∧ gJ σ' a = gJ σ a ∧ gR σ' a = gR σ a) : w_X σ' σ' A := by
  obtain ⟨hT, hA, hB, hC, hD, hE, hF, hG, hH, hI, hJ, hK, hL, hM, hN⟩ := h
  have e1 : (σ'.1, σ'.2.1, (z_mx σ' σ).2.2) = σ' := by
    have a1 : (fun a => if z_isMb a = true then gI σ' a else gI σ a) = gI σ' := by
      funext a
      split
      · rfl
      · rename_i h; exact (e a (fun g => h (isMb.mpr g))).1.symm
    have a2 : (fun a => if z_isMb a = true then gJ σ' a else gJ σ a) = gJ σ' := by
      funext a
      split
      · rfl
      · rename_i h; exact (e a (fun g => h (isMb.mpr g))).2.1.symm
    have a3 : (fun a => if z_isMb a = true then gR σ' a else gR σ a) = gR σ' := by
      funext a
      split
      · rfl
      · rename_i h; exact (e a (fun g => h (isMb.mpr g))).2.2.symm
    unfold z_mx
    rw [a1, a2, a3]
    rfl
  have h2 : w_X (σ'.1, σ'.2.1, (z_mx σ' σ).2.2) (σ'.1, σ'.2.1, (z_mx σ' σ).2.2) A := ⟨⟨fun _ _ => ⟨rfl, rfl, rfl⟩, rfl, rfl⟩, hA, hB, hC, hD, hE, hF, hG, hH, hI, hJ, hK, hL, hM, hN⟩
  rw [e1] at h2
  exact h2
/-- what holds between calls -/
def z_JJ (L n : Nat) (xs : Nat → Int32) (A : w_A) (σ : z_St) : Prop := w_X σ σ A ∧ w_M σ σ A ∧ z_VW n A ∧ z_ct L A σ ∧ gI σ 14 0 = xs
/-- component, then twin -/
theorem JJ_mid {L n : Nat} {xs : Nat → Int32} {A B : w_A} {σ T' σ1 : z_St} (h : z_JJ L n xs A σ) (hT : T'.2.2 = σ.2.2) (hc : z_ct L B T') (hX : w_X T' σ1 B) : w_M σ1 σ1 A ∧ gI σ1 14 0 = xs ∧ cn σ1 14 = L := by
  have e : ∀ a, z_isM a ∨ a = 14 → gI σ1 a = gI σ a ∧ gJ σ1 a = gJ σ a ∧ gR σ1 a = gR σ a := fun a ha => by
    obtain ⟨g1, g2, g3⟩ := hX.1.1 a ha
    refine ⟨g1.trans ?_, g2.trans ?_, g3.trans ?_⟩
    · show T'.2.2.1 a = σ.2.2.1 a; rw [hT]
    · show T'.2.2.2.1 a = σ.2.2.2.1 a; rw [hT]
    · show T'.2.2.2.2 a = σ.2.2.2.2 a; rw [hT]
  refine ⟨m_tr h.2.1 (fun a ha => e a (.inl ha)), ?_, ?_⟩
  · rw [(e 14 (.inr rfl)).1]; exact h.2.2.2.2
  · rw [hX.1.2.1]; exact hc.1
theorem JJ_end {L m : Nat} {xs : Nat → Int32} {B : w_A} {T' σ1 σ2 : z_St} (hc : z_ct L B T') (hX : w_X T' σ1 B) (hM : w_M σ1 σ2 B) (h14 : gI σ1 14 0 = xs) (hV : z_VW m B) : z_JJ L m xs B σ2 := by
  have e := hM.1.1
  have ec : cn σ2 = cn T' := hM.1.2.1.trans hX.1.2.1
  have ea : al σ2 = al T' := hM.1.2.2.trans hX.1.2.2
  refine ⟨x_tr hX e, m_tr hM (fun _ _ => ⟨rfl, rfl, rfl⟩), hV, ?_, ?_⟩
  · unfold z_ct at hc ⊢
    rw [ec, ea]
    exact hc
  · rw [(e 14 (fun g => by unfold z_isM at g; omega)).1]; exact h14
