/-! plain law: the operations -/
set_option maxRecDepth 100000
theorem nowM_ask (S : MS) (k : Nat) : (nowM S).1 (5 + k) = S.1 (2 + k) := by
  rw [Nat.add_comm 5 k]
  rfl
/-- the roles of a field's cells -/
def wR (iw : Nat) (k : Nat) : Prop := 100 * (iw + 1) ≤ k ∧ k ≤ 100 * (iw + 1) + 8
/-- what the tie reads of the model beside its field -/
def mOut (S S' : MS) : Prop := (∀ k, (k = 9 ∨ k = 57 ∨ k = 58) → S'.1 k = S.1 k) ∧ (∀ k, (k = 10 ∨ k = 56 ∨ k = 34 ∨ k = 19 ∨ k = 20 ∨ k = 21 ∨ k = 22) → S'.2.1 k = S.2.1 k) ∧ S'.2.2 = S.2.2
theorem Fix.m {C : XH} {ax : Nat → Nat} {ft fw : Nat} {im : Option Nat} {S S' : MS} (hf : Fix C ax ft fw im S) (hm : mOut S S') : Fix C ax ft fw im S' := by
  unfold Fix at hf ⊢
  rw [hm.1 9 (by decide), hm.1 57 (by decide), hm.2.1 10 (by decide), hm.2.1 56 (by decide)]
  exact hf
theorem keptM.m {S S' : MS} (hm : mOut S S') : keptM S' = keptM S := by
  unfold keptM
  rw [hm.2.1 34 (by decide)]
theorem imgOk.m {C : XH} {ρ : Nat → Nat} {S S' : MS} {im : Option Nat} {ii : Nat} (hi : imgOk C ρ S im ii) (hm : mOut S S') : imgOk C ρ S' im ii := by
  unfold imgOk at hi ⊢
  rw [hm.1 58 (by decide), keptM.m hm]
  exact hi
theorem shelfOk.m {C : XH} {ρ ax : Nat → Nat} {F F' : FD} {S S' : MS} {i : Nat} (hs : shelfOk C ρ ax F S i) (hm : mOut S S') (hn : S.1 0 ≤ S'.1 0) (hc : ∀ c, c < (S.1 0).toNatClampNeg → F'.2.2 c = F.2.2 c) : shelfOk C ρ ax F' S' i := by
  unfold shelfOk at hs ⊢
  rw [hm.2.1 19 (by decide), hm.2.1 20 (by decide), hm.2.1 21 (by decide), hm.2.1 22 (by decide), hm.2.2]
  rcases hs with a | a | ⟨a1, b, a2, a3, a4, a5⟩
  · exact Or.inl a
  · exact Or.inr (Or.inl a)
  · refine Or.inr (Or.inr ⟨a1, b, a2, a3, ?_, ?_⟩)
    · have := i_lt.mp a4
      have := i_le.mp hn
      exact i_lt.mpr (by omega)
    · rw [hc _ ?_]
      · exact a5
      · have h1 := i_lt.mp a4
        have h0 := i_le.mp a3
        have e0 : (0 : Int32).toInt = 0 := rfl
        rw [e0] at h0
        show (S.2.1 22 i).toInt.toNat < (S.1 0).toInt.toNat
        omega
/-- only w changes -/
theorem Rel.upW {x h : Nat} {ad : Nat → Nat} {C C1 : XH} {S S' : MS} {ρ ax : Nat → Nat} {iw ii ft fw : Nat} {fta fwa : Nat → Nat} {Ft Fw Fw' : FD} {im : Option Nat}
    (hM : mIn C h ad S ∧ mDis h ad ∧ ρ h = 9 ∧ ∀ k ∈ mIds, ρ (ad k) = 9) (hx : x = ax 1 ∧ ∀ k ∈ fixedA, ρ (ax k) = k) (hid : 0 < iw ∧ 0 < ii ∧ iw ≠ ii) (hF : Fix C ax ft fw im S) (ht : fRole ρ 0 ft fta ∧ FRep C ft fta Ft) (hw : fRole ρ iw fw fwa) (hi : imgOk C ρ S im ii) (hs : ∀ i, i < 8 → shelfOk C ρ ax Fw S i)
    (hsame : same ρ (wR iw) C C1) (hw' : FRep C1 fw fwa Fw') (hq : FEq C1 ρ Fw' (nowM S')) (hb : MB (nowM S')) (hm : mOut S S') (hn : S.1 0 ≤ S'.1 0) (hc : ∀ c, c < (S.1 0).toNatClampNeg → Fw'.2.2 c = Fw.2.2 c) : mIn C1 h ad S ∧ Rel x h ad (mput C1 h ad S') S' := by
  have n9 : ¬ wR iw 9 := by unfold wR; omega
  have s9 : same ρ (fun k => k = 9) C1 (mput C1 h ad S') := same.put hM.2.2.1 (fun k hk => hM.2.2.2 k hk)
  have st : same ρ (fun k => wR iw k ∨ k = 9) C (mput C1 h ad S') := (hsame.mono (fun k hk => Or.inl hk)).tr (s9.mono (fun k hk => Or.inr hk))
  have fx : ∀ k ∈ fixedA, ¬ (wR iw k ∨ k = 9) := by
    have : ∀ k ∈ fixedA, k < 100 ∧ k ≠ 9 := by decide
    intro k hk
    have := this k hk
    unfold wR
    omega
  refine ⟨hM.1.same hM.2.2.1 hM.2.2.2 n9 hsame, ρ, ax, iw, ii, ft, fw, fta, fwa, Ft, Fw', im, ⟨mput_in hM.2.1, hM.2⟩, hx, hid, (hF.same hx.2 fx st).m hm, ⟨ht.1, FRep.same ht.1 ht.2 (fun j hj => by unfold wR; omega) st⟩, ⟨hw, FRep.same hw hw' (fun j hj => by omega) s9, hq.same (by decide) s9, hb⟩, (hi.same (fun j hj => by unfold wR; omega) (by unfold wR; omega) st).m hm, fun i hi8 => ?_⟩
  have hx20 : 20 + i ∈ fixedA := (by decide : ∀ i, i < 8 → 20 + i ∈ fixedA) i hi8
  exact ((hs i hi8).same (hx.2 _ hx20) (by unfold wR; omega) (by unfold wR; omega) (by unfold wR; omega) st).m hm hn hc
section OPS0
variable {x h : Nat} {ad : Nat → Nat} {C : XH} {S : MS}
theorem op_fault (hR : Rel x h ad C S) : x_X0_fault x C (fun r C1 => mIn C1 h ad S ∧ m_fault S (fun r' S' => r' = r ∧ Rel x h ad (mput C1 h ad S') S')) := by
  have hR0 := hR
  obtain ⟨ρ, ax, iw, ii, ft, fw, fta, fwa, Ft, Fw, im, hM, ⟨rfl, hx⟩, hid, hF, ht, hw, hi, hs⟩ := hR
  unfold x_X0_fault m_fault
  refine q_i hF.1 rfl ⟨hM.1, rfl, ?_⟩
  rw [mput_self hM.2.1 hM.1]
  exact hR0
theorem op_seed {v : Int32} (hR : Rel x h ad C S) : x_X0_seed x v C (fun r C1 => mIn C1 h ad S ∧ m_seed v S (fun r' S' => r' = r ∧ Rel x h ad (mput C1 h ad S') S')) := by
  obtain ⟨ρ, ax, iw, ii, ft, fw, fta, fwa, Ft, Fw, im, hM, hx, hid, hF, ht, ⟨hw, hf, hq, hb⟩, hi, hs⟩ := hR
  have hxx := hx.1
  subst hxx
  unfold x_X0_seed m_seed
  refine q_r hF.1 rfl (q_i hf.1 rfl (q_r hF.1 rfl (q_p hf.1 (by simp) ?_)))
  have e8 : Fw.1 4 = S.1 8 := hq.1 4 (by decide)
  have hne : ∀ k, 5 ≤ k → k ≤ 12 → fwa k ≠ fw := fun k h5 h12 e => by
    have h1 := hw.2 k h5 h12
    rw [e, hw.1] at h1
    omega
  have hup := Rel.upW (C1 := xset C fw (FO (Fw.1 0) (Fw.1 1) (Fw.1 2) (Fw.1 3) v fwa)) (S' := mset S 8 v) (Fw' := (fun k => if k = 4 then v else Fw.1 k, Fw.2)) hM hx hid hF ht hw hi hs (same.set (by rw [hw.1]; unfold wR; omega))
    ⟨by rw [xset_self]; rfl, by rw [xset_ne (hne 5 (by omega) (by omega))]; exact hf.2.1, by rw [xset_ne (hne 6 (by omega) (by omega))]; exact hf.2.2.1, by rw [xset_ne (hne 7 (by omega) (by omega))]; exact hf.2.2.2.1, by rw [xset_ne (hne 8 (by omega) (by omega))]; exact hf.2.2.2.2.1, by rw [xset_ne (hne 9 (by omega) (by omega))]; exact hf.2.2.2.2.2.1, by rw [xset_ne (hne 10 (by omega) (by omega))]; exact hf.2.2.2.2.2.2.1, by rw [xset_ne (hne 11 (by omega) (by omega))]; exact hf.2.2.2.2.2.2.2.1, by rw [xset_ne (hne 12 (by omega) (by omega))]; exact hf.2.2.2.2.2.2.2.2⟩
    ?_ ?_ ⟨fun k hk => mset_n (by omega), fun _ _ => rfl, rfl⟩ (by rw [mset_n (j := 8) (by decide)]; exact Int32.le_refl _) (fun _ _ => rfl)
  · exact ⟨hup.1, e8.symm, hup.2⟩
  · have hs40 : same ρ (wR iw) C (xset C fw (FO (Fw.1 0) (Fw.1 1) (Fw.1 2) (Fw.1 3) v fwa)) := same.set (by rw [hw.1]; unfold wR; omega)
    have hq2 := hq.same (P := wR iw) (by unfold wR; omega) hs40
    obtain ⟨q1, q2, q3, q4⟩ := hq2
    refine ⟨fun k hk => ?_, fun k hk => ?_, q3, q4⟩
    have hk5 : k = 0 ∨ k = 1 ∨ k = 2 ∨ k = 3 ∨ k = 4 := by omega
    rcases hk5 with rfl | rfl | rfl | rfl | rfl
    · exact q1 0 (by decide)
    · exact q1 1 (by decide)
    · exact q1 2 (by decide)
    · exact q1 3 (by decide)
    · exact (mset_s (S := S) (k := 8) (v := v)).symm
    · have q := q2 k hk
      rw [nowM_ask] at q ⊢
      rw [mset_n (j := 8) (by omega)]
      exact q
  · exact hb
end OPS0
