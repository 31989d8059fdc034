/-! plain law: a new object that nothing of the tie speaks of -/
set_option maxRecDepth 100000
theorem Rel.fresh {x h : Nat} {ad : Nat → Nat} {C : XH} {S : MS} {q : Nat} {e : XE} (hR : Rel x h ad C S) (hq : C q = none) : Rel x h ad (xset C q e) S := by
  obtain ⟨ρ, ax, iw, ii, ft, fw, fta, fwa, Ft, Fw, im, hM, hx, hid, hF, ht, hw, hi, hs⟩ := hR
  have lv : ∀ {a : Nat} {z : XE}, C a = some z → a ≠ q := fun ha he => by rw [he, hq] at ha; cases ha
  obtain ⟨σ, hσ⟩ : ∃ σ : Nat → Nat, σ = fun a => if a = q then 41 else ρ a := ⟨_, rfl⟩
  have hσq : σ q = 41 := by rw [hσ]; simp
  have hσo : ∀ a, a ≠ q → σ a = ρ a := fun a ha => by rw [hσ]; simp [ha]
  have hsm : same σ (fun k => k = 41) C (xset C q e) := same.set hσq
  have fr : ∀ {id f : Nat} {fa : Nat → Nat} {F : FD}, fRole ρ id f fa → FRep C f fa F → fRole σ id f fa := by
    intro id f fa F hr hf
    refine ⟨by rw [hσo f (lv hf.1)]; exact hr.1, fun j h5 h12 => ?_⟩
    have hj : j = 5 ∨ j = 6 ∨ j = 7 ∨ j = 8 ∨ j = 9 ∨ j = 10 ∨ j = 11 ∨ j = 12 := by omega
    rcases hj with rfl | rfl | rfl | rfl | rfl | rfl | rfl | rfl
    · rw [hσo _ (lv hf.2.1)]; exact hr.2 5 h5 h12
    · rw [hσo _ (lv hf.2.2.1)]; exact hr.2 6 h5 h12
    · rw [hσo _ (lv hf.2.2.2.1)]; exact hr.2 7 h5 h12
    · rw [hσo _ (lv hf.2.2.2.2.1)]; exact hr.2 8 h5 h12
    · rw [hσo _ (lv hf.2.2.2.2.2.1)]; exact hr.2 9 h5 h12
    · rw [hσo _ (lv hf.2.2.2.2.2.2.1)]; exact hr.2 10 h5 h12
    · rw [hσo _ (lv hf.2.2.2.2.2.2.2.1)]; exact hr.2 11 h5 h12
    · rw [hσo _ (lv hf.2.2.2.2.2.2.2.2)]; exact hr.2 12 h5 h12
  have fe : ∀ {F : FD} {M : MD}, FEq C ρ F M → FEq C σ F M := by
    intro F M hf
    refine ⟨hf.1, hf.2.1, fun c hc => ⟨(hf.2.2.1 c hc).1, ?_⟩, hf.2.2.2⟩
    obtain ⟨b, k, q1, q2, q3, q4, q5⟩ := (hf.2.2.1 c hc).2
    exact ⟨b, k, q1, q2, q3, q4, by rw [hσo b (lv q4)]; exact q5⟩
  have hx' : ∀ k ∈ fixedA, σ (ax k) = k := by
    have hl : ∀ k ∈ fixedA, ∃ z, C (ax k) = some z := by
      obtain ⟨a1, a2, a3, a4, a5, a6, ⟨e7, a7, _⟩, a8, a9, ⟨v0, g1, g2, g3, a10⟩, a11, a12, ⟨u1, a13⟩, ⟨u2, a14⟩, ⟨e15, a15, _⟩⟩ := hF
      have sh : ∀ i, i < 8 → ∃ z, C (ax (20 + i)) = some z := by
        intro i hi8
        rcases hs i hi8 with ⟨_, b⟩ | ⟨_, q, so, n, b, _⟩ | ⟨_, q, b, _⟩
        · exact ⟨_, b⟩
        · exact ⟨_, b⟩
        · exact ⟨_, b⟩
      intro k hk
      have hk' : k = 1 ∨ k = 2 ∨ k = 3 ∨ k = 4 ∨ k = 5 ∨ k = 6 ∨ k = 7 ∨ k = 8 ∨ k = 10 ∨ (∃ j, j < 5 ∧ k = 11 + j) ∨ k = 16 ∨ k = 17 ∨ k = 18 ∨ (∃ i, i < 8 ∧ k = 20 + i) ∨ (∃ i, i < 8 ∧ k = 30 + i) := by
        have hb : (1 ≤ k ∧ k ≤ 8) ∨ (10 ≤ k ∧ k ≤ 18) ∨ (20 ≤ k ∧ k ≤ 27) ∨ (30 ≤ k ∧ k ≤ 37) := (by decide : ∀ k ∈ fixedA, (1 ≤ k ∧ k ≤ 8) ∨ (10 ≤ k ∧ k ≤ 18) ∨ (20 ≤ k ∧ k ≤ 27) ∨ (30 ≤ k ∧ k ≤ 37)) k hk
        by_cases c1 : k ≤ 10
        · omega
        · by_cases c2 : k ≤ 15
          · exact Or.inr (Or.inr (Or.inr (Or.inr (Or.inr (Or.inr (Or.inr (Or.inr (Or.inr (Or.inl ⟨k - 11, by omega, by omega⟩)))))))))
          · by_cases c3 : k ≤ 18
            · omega
            · by_cases c4 : k ≤ 27
              · exact Or.inr (Or.inr (Or.inr (Or.inr (Or.inr (Or.inr (Or.inr (Or.inr (Or.inr (Or.inr (Or.inr (Or.inr (Or.inr (Or.inl ⟨k - 20, by omega, by omega⟩)))))))))))))
              · exact Or.inr (Or.inr (Or.inr (Or.inr (Or.inr (Or.inr (Or.inr (Or.inr (Or.inr (Or.inr (Or.inr (Or.inr (Or.inr (Or.inr ⟨k - 30, by omega, by omega⟩)))))))))))))
      rcases hk' with rfl | rfl | rfl | rfl | rfl | rfl | rfl | rfl | rfl | ⟨j, hj, rfl⟩ | rfl | rfl | rfl | ⟨i, hi8, rfl⟩ | ⟨i, hi8, rfl⟩
      · exact ⟨_, a1⟩
      · exact ⟨_, a2⟩
      · exact ⟨_, a3⟩
      · exact ⟨_, a4⟩
      · exact ⟨_, a5⟩
      · exact ⟨_, a7⟩
      · exact ⟨_, a8⟩
      · exact ⟨_, a10⟩
      · exact ⟨_, a11⟩
      · obtain ⟨u, hu⟩ := a12 j hj
        exact ⟨_, hu⟩
      · exact ⟨_, a13⟩
      · exact ⟨_, a14⟩
      · exact ⟨_, a15⟩
      · exact sh i hi8
      · obtain ⟨z, hz, _⟩ := a9 i hi8
        exact ⟨_, hz⟩
    intro k hk
    obtain ⟨z, hz⟩ := hl k hk
    rw [hσo _ (lv hz)]
    exact hx.2 k hk
  refine ⟨σ, ax, iw, ii, ft, fw, fta, fwa, Ft, Fw, im, ⟨hM.1.same (ρ := σ) (by rw [hσo h (lv hM.1.1)]; exact hM.2.2.1) (fun k hk => by rw [hσo _ (lv (hM.1.2 k hk))]; exact hM.2.2.2 k hk) (by decide) hsm, hM.2.1, by rw [hσo h (lv hM.1.1)]; exact hM.2.2.1, fun k hk => by rw [hσo _ (lv (hM.1.2 k hk))]; exact hM.2.2.2 k hk⟩, ⟨hx.1, hx'⟩, hid, hF.same hx' (by decide) hsm, ⟨fr ht.1 ht.2, FRep.same (fr ht.1 ht.2) ht.2 (fun j hj => by omega) hsm⟩, ⟨fr hw.1 hw.2.1, FRep.same (fr hw.1 hw.2.1) hw.2.1 (fun j hj => by omega) hsm, (fe hw.2.2.1).same (by decide) hsm, hw.2.2.2⟩, ?_, fun i hi8 => ?_⟩
  · rcases hi with hi | ⟨f, fa, F, a1, a2, a3, a4, a5, a6⟩
    · exact Or.inl hi
    · exact Or.inr ⟨f, fa, F, a1, a2, fr a3 a4, FRep.same (fr a3 a4) a4 (fun j hj => by omega) hsm, (fe a5).same (by decide) hsm, a6⟩
  · have h20 : 20 + i ∈ fixedA := (by decide : ∀ i, i < 8 → 20 + i ∈ fixedA) i hi8
    have hsi : shelfOk C σ ax Fw S i := by
      rcases hs i hi8 with a | ⟨b1, r, so, n, b2, b3, b4, c1, c2, c3, c4, a, c5, c6, c7⟩ | a
      · exact Or.inl a
      · exact Or.inr (Or.inl ⟨b1, r, so, n, b2, b3, b4, c1, c2, c3, by rw [hσo r (lv c6)]; exact c4, a, by rw [hσo a (lv c7)]; exact c5, c6, c7⟩)
      · exact Or.inr (Or.inr a)
    exact hsi.same (hx' _ h20) (by omega) (by omega) (by omega) hsm
