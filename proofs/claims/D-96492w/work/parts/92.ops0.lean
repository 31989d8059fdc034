/-! plain law: the operations -/
set_option maxRecDepth 100000
section OPS0
variable {x h : Nat} {ad : Nat → Nat} {C : XH} {S : MS}
theorem op_fault (hR : Rel x h ad C S) : x_X0_fault x C (fun r C1 => mIn C1 h ad S ∧ m_fault S (fun r' S' => r' = r ∧ Rel x h ad (mput C1 h ad S') S')) := by
  have hR0 := hR
  obtain ⟨ρ, ax, iw, ii, ft, fw, fta, fwa, Ft, Fw, im, hM, ⟨rfl, hx⟩, hid, hF, ht, hw, hi, hs⟩ := hR
  unfold x_X0_fault m_fault
  refine q_i hF.1 rfl ⟨hM.1, rfl, ?_⟩
  rw [mput_self hM.2.1 hM.1]
  exact hR0
end OPS0
