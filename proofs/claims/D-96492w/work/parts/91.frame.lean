/-! plain law: what stays, by roles -/
set_option maxRecDepth 100000
/-- the two heaps are one but at addresses of certain roles -/
def same (ρ : Nat → Nat) (P : Nat → Prop) (C C' : XH) : Prop := ∀ q, ¬ P (ρ q) → C' q = C q
theorem same.set {ρ : Nat → Nat} {P : Nat → Prop} {C : XH} {a : Nat} {e : XE} (h : P (ρ a)) : same ρ P C (xset C a e) := fun q hq => xset_ne (fun he => hq (by rw [he]; exact h))
theorem same.tr {ρ : Nat → Nat} {P : Nat → Prop} {A B C : XH} (h1 : same ρ P A B) (h2 : same ρ P B C) : same ρ P A C := fun q hq => (h2 q hq).trans (h1 q hq)
theorem same.mono {ρ : Nat → Nat} {P P' : Nat → Prop} {C C' : XH} (h : same ρ P C C') (hp : ∀ k, P k → P' k) : same ρ P' C C' := fun q hq => h q (fun hk => hq (hp _ hk))
theorem same.rf {ρ : Nat → Nat} {P : Nat → Prop} {C : XH} : same ρ P C C := fun _ _ => rfl
theorem same.put {ρ : Nat → Nat} {P : Nat → Prop} {C : XH} {h : Nat} {ad : Nat → Nat} {S : MS} (hh : P (ρ h)) (ha : ∀ k ∈ mIds, P (ρ (ad k))) : same ρ P C (mput C h ad S) := fun q hq => mput_o (fun e => hq (by rw [e]; exact hh)) (fun k hk e => hq (by rw [← e]; exact ha k hk))
theorem mIn.same {ρ : Nat → Nat} {P : Nat → Prop} {C C' : XH} {h : Nat} {ad : Nat → Nat} {S : MS} (hm : mIn C h ad S) (h9 : ρ h = 9) (ha : ∀ k ∈ mIds, ρ (ad k) = 9) (hp : ¬ P 9) (hs : same ρ P C C') : mIn C' h ad S :=
  ⟨by rw [hs h (by rw [h9]; exact hp)]; exact hm.1, fun k hk => by rw [hs (ad k) (by rw [ha k hk]; exact hp)]; exact hm.2 k hk⟩
theorem FRep.same {ρ : Nat → Nat} {P : Nat → Prop} {C C' : XH} {id f : Nat} {fa : Nat → Nat} {F : FD} (hr : fRole ρ id f fa) (hf : FRep C f fa F) (hp : ∀ j, j ≤ 8 → ¬ P (100 * (id + 1) + j)) (hs : same ρ P C C') : FRep C' f fa F := by
  have e0 : C' f = C f := hs f (by rw [hr.1]; exact hp 0 (by omega))
  have ek : ∀ j, 5 ≤ j → j ≤ 12 → C' (fa j) = C (fa j) := fun j h5 h12 => hs _ (by rw [hr.2 j h5 h12]; exact hp (j - 4) (by omega))
  obtain ⟨a0, a5, a6, a7, a8, a9, a10, a11, a12⟩ := hf
  exact ⟨by rw [e0]; exact a0, by rw [ek 5 (by omega) (by omega)]; exact a5, by rw [ek 6 (by omega) (by omega)]; exact a6, by rw [ek 7 (by omega) (by omega)]; exact a7, by rw [ek 8 (by omega) (by omega)]; exact a8, by rw [ek 9 (by omega) (by omega)]; exact a9, by rw [ek 10 (by omega) (by omega)]; exact a10, by rw [ek 11 (by omega) (by omega)]; exact a11, by rw [ek 12 (by omega) (by omega)]; exact a12⟩
theorem FEq.same {ρ : Nat → Nat} {P : Nat → Prop} {C C' : XH} {F : FD} {M : MD} (h : FEq C ρ F M) (hp : ¬ P 40) (hs : same ρ P C C') : FEq C' ρ F M := by
  obtain ⟨h1, h2, h3, h4⟩ := h
  refine ⟨h1, h2, fun c hc => ⟨(h3 c hc).1, ?_⟩, h4⟩
  obtain ⟨b, k, q1, q2, q3, q4, q5⟩ := (h3 c hc).2
  exact ⟨b, k, q1, q2, q3, by rw [hs b (by rw [q5]; exact hp)]; exact q4, q5⟩
theorem isRow.same {ρ : Nat → Nat} {P : Nat → Prop} {C C' : XH} {i q so n : Nat} {f : Nat → Int64} (h : isRow C ρ i q so n f) (h5 : ¬ P (50 + i)) (h6 : ¬ P (60 + i)) (hs : same ρ P C C') : isRow C' ρ i q so n f := by
  obtain ⟨a1, a2, a3, a4, a, a5, a6, a7⟩ := h
  exact ⟨a1, a2, a3, a4, a, a5, by rw [hs q (by rw [a4]; exact h5)]; exact a6, by rw [hs a (by rw [a5]; exact h6)]; exact a7⟩
theorem imgOk.same {ρ : Nat → Nat} {P : Nat → Prop} {C C' : XH} {S : MS} {im : Option Nat} {ii : Nat} (h : imgOk C ρ S im ii) (hp : ∀ j, j ≤ 8 → ¬ P (100 * (ii + 1) + j)) (h4 : ¬ P 40) (hs : same ρ P C C') : imgOk C' ρ S im ii := by
  rcases h with h | ⟨f, fa, F, a1, a2, a3, a4, a5, a6⟩
  · exact Or.inl h
  · exact Or.inr ⟨f, fa, F, a1, a2, a3, FRep.same a3 a4 hp hs, a5.same h4 hs, a6⟩
theorem shelfOk.same {ρ ax : Nat → Nat} {P : Nat → Prop} {C C' : XH} {F : FD} {S : MS} {i : Nat} (h : shelfOk C ρ ax F S i) (hx : ρ (ax (20 + i)) = 20 + i) (h2 : ¬ P (20 + i)) (h5 : ¬ P (50 + i)) (h6 : ¬ P (60 + i)) (hs : same ρ P C C') : shelfOk C' ρ ax F S i := by
  have e := hs (ax (20 + i)) (by rw [hx]; exact h2)
  rcases h with ⟨a1, a2⟩ | ⟨a1, q, so, n, a2, a3, a4, a5⟩ | ⟨a1, b, a2, a3⟩
  · exact Or.inl ⟨a1, by rw [e]; exact a2⟩
  · exact Or.inr (Or.inl ⟨a1, q, so, n, by rw [e]; exact a2, a3, a4, a5.same h5 h6 hs⟩)
  · exact Or.inr (Or.inr ⟨a1, b, by rw [e]; exact a2, a3⟩)
theorem Fix.same {ρ ax : Nat → Nat} {P : Nat → Prop} {C C' : XH} {ft fw : Nat} {im : Option Nat} {S : MS} (h : Fix C ax ft fw im S) (hx : ∀ k ∈ fixedA, ρ (ax k) = k) (hp : ∀ k ∈ fixedA, ¬ P k) (hs : same ρ P C C') : Fix C' ax ft fw im S := by
  have e : ∀ k, k ∈ fixedA → C' (ax k) = C (ax k) := fun k hk => hs _ (by rw [hx k hk]; exact hp k hk)
  have m30 : ∀ i, i < 8 → 30 + i ∈ fixedA := by decide
  have m11 : ∀ j, j < 5 → 11 + j ∈ fixedA := by decide
  obtain ⟨a1, a2, a3, a4, a5, a6, a7, a8, a9, a10, a11, a12, a13, a14, a15⟩ := h
  refine ⟨by rw [e 1 (by decide)]; exact a1, by rw [e 2 (by decide)]; exact a2, by rw [e 3 (by decide)]; exact a3, by rw [e 4 (by decide)]; exact a4, by rw [e 5 (by decide)]; exact a5, a6, by rw [e 6 (by decide)]; exact a7, by rw [e 7 (by decide)]; exact a8, fun i hi => by rw [e _ (m30 i hi)]; exact a9 i hi, by rw [e 8 (by decide)]; exact a10, by rw [e 10 (by decide)]; exact a11, fun j hj => by rw [e _ (m11 j hj)]; exact a12 j hj, by rw [e 16 (by decide)]; exact a13, by rw [e 17 (by decide)]; exact a14, by rw [e 18 (by decide)]; exact a15⟩
