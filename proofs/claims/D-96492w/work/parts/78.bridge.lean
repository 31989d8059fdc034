/-! the model's contracts over the clean heap -/
set_option maxRecDepth 100000
def mXE (S : MS) (k : Nat) : XE := if mLng k = true then .inl (1, mLen k, .inr (.inl (S.2.2 k))) else .inl (0, mLen k, .inl (S.2.1 k))
theorem mXE_to (dT : Nat → ClassId) (S : MS) (k : Nat) : toE dT (mXE S k) = mE dT S k := by
  by_cases h : mLng k = true
  · rw [mE_L h]
    simp [mXE, h, toE]
  · rw [mE_I (Bool.eq_false_iff.mpr h)]
    simp [mXE, h, toE]
def mIn (C : XH) (h : Nat) (ad : Nat → Nat) (S : MS) : Prop := C h = some (.inr (6, mFs ad S)) ∧ ∀ k ∈ mIds, C (ad k) = some (mXE S k)
def mDis (h : Nat) (ad : Nat → Nat) : Prop := (∀ k ∈ mIds, ad k ≠ h) ∧ ∀ j ∈ mIds, ∀ k ∈ mIds, ad j = ad k → j = k
def mput (C : XH) (h : Nat) (ad : Nat → Nat) (S : MS) : XH := fun q => if q = h then some (.inr (6, mFs ad S)) else match mIds.find? (fun k => ad k == q) with
  | some k => some (mXE S k)
  | none => C q
theorem mput_h {C : XH} {h : Nat} {ad : Nat → Nat} {S : MS} : mput C h ad S h = some (.inr (6, mFs ad S)) := by simp [mput]
theorem mput_k {C : XH} {h : Nat} {ad : Nat → Nat} {S : MS} (hd : mDis h ad) {k : Nat} (hk : k ∈ mIds) : mput C h ad S (ad k) = some (mXE S k) := by
  unfold mput
  rw [if_neg (hd.1 k hk)]
  cases hf : mIds.find? (fun j => ad j == ad k) with
  | none =>
    have := List.find?_eq_none.mp hf k hk
    simp at this
  | some j =>
    have h1 := List.find?_some hf
    have h2 := List.mem_of_find?_eq_some hf
    have h3 : j = k := hd.2 j h2 k hk (by simpa using h1)
    rw [h3]
theorem mput_o {C : XH} {h : Nat} {ad : Nat → Nat} {S : MS} {q : Nat} (h1 : q ≠ h) (h2 : ∀ k ∈ mIds, ad k ≠ q) : mput C h ad S q = C q := by
  unfold mput
  rw [if_neg h1]
  cases hf : mIds.find? (fun j => ad j == q) with
  | none => rfl
  | some j =>
    have h3 := List.find?_some hf
    have h4 := List.mem_of_find?_eq_some hf
    exact absurd (by simpa using h3) (h2 j h4)
theorem mput_in {C : XH} {h : Nat} {ad : Nat → Nat} {S : MS} (hd : mDis h ad) : mIn (mput C h ad S) h ad S := ⟨mput_h, fun k hk => mput_k hd hk⟩
theorem mput_self {C : XH} {h : Nat} {ad : Nat → Nat} {S : MS} (hd : mDis h ad) (hC : mIn C h ad S) : mput C h ad S = C := by
  funext q
  by_cases h1 : q = h
  · rw [h1, mput_h, hC.1]
  · by_cases h2 : ∃ k ∈ mIds, ad k = q
    · obtain ⟨k, hk, e⟩ := h2
      rw [← e, mput_k hd hk, hC.2 k hk]
    · exact mput_o h1 (fun k hk e => h2 ⟨k, hk, e⟩)
theorem mput_put {C : XH} {h : Nat} {ad : Nat → Nat} {S S' : MS} (hd : mDis h ad) : mput (mput C h ad S) h ad S' = mput C h ad S' := by
  funext q
  by_cases h1 : q = h
  · rw [h1, mput_h, mput_h]
  · by_cases h2 : ∃ k ∈ mIds, ad k = q
    · obtain ⟨k, hk, e⟩ := h2
      rw [← e, mput_k hd hk, mput_k hd hk]
    · have h3 : ∀ k ∈ mIds, ad k ≠ q := fun k hk e => h2 ⟨k, hk, e⟩
      rw [mput_o h1 h3, mput_o h1 h3, mput_o h1 h3]
theorem mw_mem {h : Nat} {ad : Nat → Nat} {dT : Nat → ClassId} {S : MS} {i : Nat} {p : Nat × va_E} (hp : (mw h ad dT S)[i]? = some p) : (i = 0 ∧ p = (h, .inr (6, mFs ad S))) ∨ ∃ k, mIds[i - 1]? = some k ∧ 0 < i ∧ p = (ad k, mE dT S k) := by
  cases i with
  | zero => exact Or.inl ⟨rfl, (Option.some.inj hp).symm⟩
  | succ i =>
    have hp' : (mIds.map (fun k => (ad k, mE dT S k)))[i]? = some p := hp
    rw [List.getElem?_map] at hp'
    cases hk : mIds[i]? with
    | none => rw [hk] at hp'; cases hp'
    | some k =>
      rw [hk] at hp'
      exact Or.inr ⟨k, hk, Nat.succ_pos i, (Option.some.inj hp').symm⟩
theorem mDis_D {h : Nat} {ad : Nat → Nat} {dT : Nat → ClassId} {S : MS} (hd : mDis h ad) : va_D (fun _ => True) (mw h ad dT S) := by
  refine ⟨fun i j p q hi hj e => ?_, fun _ _ _ => trivial⟩
  rcases mw_mem hi with ⟨i0, ep⟩ | ⟨k, hk, ki, ep⟩ <;> rcases mw_mem hj with ⟨j0, eq⟩ | ⟨k', hk', kj, eq⟩
  · rw [i0, j0]
  · rw [ep, eq] at e
    exact absurd e.symm (hd.1 k' (List.mem_of_getElem? hk'))
  · rw [ep, eq] at e
    exact absurd e (hd.1 k (List.mem_of_getElem? hk))
  · rw [ep, eq] at e
    have h1 := hd.2 k (List.mem_of_getElem? hk) k' (List.mem_of_getElem? hk') e
    subst h1
    have := mIds_nd (i - 1) (j - 1) k hk hk'
    omega
theorem mIn_P {D : va_G} {dT : Nat → ClassId} {C : XH} {H : Heap} {h : Nat} {ad : Nat → Nat} {S : MS} (hP : xP D dT C H) (hC : mIn C h ad S) : va_P D aCl (mw h ad dT S) H := by
  intro i p hp
  rcases mw_mem hp with ⟨_, ep⟩ | ⟨k, hk, _, ep⟩
  · rw [ep]
    exact hP h _ hC.1
  · rw [ep]
    have := hP (ad k) _ (hC.2 k (List.mem_of_getElem? hk))
    rw [mXE_to] at this
    exact this
theorem mIn_A {dT : Nat → ClassId} {C : XH} {h sz : Nat} {ad : Nat → Nat} {S : MS} (hC : mIn C h ad S) {q : Nat} (hq : va_A (mw h ad dT S) sz q) : xA C sz q := by
  rcases hq with ⟨i, e, hi⟩ | hq
  · rcases mw_mem hi with ⟨_, ep⟩ | ⟨k, hk, _, ep⟩
    · cases ep
      exact Or.inl ⟨_, hC.1⟩
    · cases ep
      exact Or.inl ⟨_, hC.2 k (List.mem_of_getElem? hk)⟩
  · exact Or.inr hq
theorem mput_world {D : va_G} {dT : Nat → ClassId} {C : XH} {h : Nat} {ad : Nat → Nat} {S S' : MS} {s t : State} (hd : mDis h ad) (hC : mIn C h ad S) (hP : xP D dT C s.heap) (hB : mB D dT h ad (va_A (mw h ad dT S) s.heap.size) S' t) (hF : va_F (va_A (mw h ad dT S) s.heap.size) s t) : xB D dT (xA C s.heap.size) (mput C h ad S') t := by
  refine ⟨fun b e hb => ?_, hB.2.1, fun b e hb => ?_⟩
  · by_cases h1 : b = h
    · subst h1
      rw [mput_h] at hb
      cases hb
      exact hB.1 0 _ mw_0
    · by_cases h2 : ∃ k ∈ mIds, ad k = b
      · obtain ⟨k, hk, rfl⟩ := h2
        rw [mput_k hd hk] at hb
        cases hb
        obtain ⟨i, _, hi⟩ := mw_arr (h := h) (ad := ad) (dT := dT) (S := S') hk
        rw [mXE_to]
        exact hB.1 (i + 1) _ hi
      · have h3 : ∀ k ∈ mIds, ad k ≠ b := fun k hk e => h2 ⟨k, hk, e⟩
        rw [mput_o h1 h3] at hb
        have h4 := hP b e hb
        refine h4.kept (hF.2 b h4.lt ?_)
        intro hq
        rcases hq with ⟨i, e', hi⟩ | hq
        · rcases mw_mem hi with ⟨_, ep⟩ | ⟨k, hk, _, ep⟩
          · exact h1 (congrArg (fun p => p.1) ep)
          · exact h3 k (List.mem_of_getElem? hk) (congrArg (fun p => p.1) ep).symm
        · exact absurd h4.lt (Nat.not_lt.mpr hq)
  · by_cases h1 : b = h
    · subst h1
      exact Or.inl ⟨_, hC.1⟩
    · by_cases h2 : ∃ k ∈ mIds, ad k = b
      · obtain ⟨k, hk, rfl⟩ := h2
        exact Or.inl ⟨_, hC.2 k hk⟩
      · rw [mput_o h1 (fun k hk e => h2 ⟨k, hk, e⟩)] at hb
        exact Or.inl ⟨e, hb⟩
theorem m_brI {l : Launch} {y : MethodName} {cc : ByteArray} {nL fr lo : Nat} {S : MS} {av : (Nat → Nat) → List Value} {K : Int32 → MS → Prop} {C : XH} {h : Nat} {ad : Nat → Nat} (hm : mMeti l y cc nL fr lo S av K) (hd : mDis h ad) (hC : mIn C h ad S) : xMeti l y (ws_ y cc nL (some .int)) fr lo 0 0 C (.ref h :: av ad) (fun r C' => ∃ S', K r S' ∧ C' = mput C h ad S') := by
  intro D dT adK adV sz p e ha hc hk s m args below hf happ hpre _
  obtain ⟨rfl, hsz, hP, hK, hG⟩ := hpre
  subst hsz
  obtain ⟨n, o, h1, h2, h3, ⟨⟨⟨r, S', ho, hKr, hB⟩, hF⟩, L, hL, hfree⟩⟩ := hm D dT h ad s.heap.size p e ha hc hk s m _ below hf happ ⟨rfl, rfl, mIn_P hP hC, hK, mDis_D hd⟩ trivial
  exact ⟨n, o, h1, h2, h3, ⟨⟨r, mput C h ad S', ho, ⟨S', hKr, rfl⟩, mput_world hd hC hP hB hF⟩, hF.1, fun q hq hn => hF.2 q hq (fun hA => hn (mIn_A hC hA))⟩, L, hL, fun q hq => mIn_A hC (hfree q hq)⟩
theorem m_brL {l : Launch} {y : MethodName} {cc : ByteArray} {nL fr lo : Nat} {S : MS} {av : (Nat → Nat) → List Value} {K : Int64 → MS → Prop} {C : XH} {h : Nat} {ad : Nat → Nat} (hm : mMetl l y cc nL fr lo S av K) (hd : mDis h ad) (hC : mIn C h ad S) : xMetl l y (ws_ y cc nL (some .long)) fr lo 0 0 C (.ref h :: av ad) (fun r C' => ∃ S', K r S' ∧ C' = mput C h ad S') := by
  intro D dT adK adV sz p e ha hc hk s m args below hf happ hpre _
  obtain ⟨rfl, hsz, hP, hK, hG⟩ := hpre
  subst hsz
  obtain ⟨n, o, h1, h2, h3, ⟨⟨⟨r, S', ho, hKr, hB⟩, hF⟩, L, hL, hfree⟩⟩ := hm D dT h ad s.heap.size p e ha hc hk s m _ below hf happ ⟨rfl, rfl, mIn_P hP hC, hK, mDis_D hd⟩ trivial
  exact ⟨n, o, h1, h2, h3, ⟨⟨r, mput C h ad S', ho, ⟨S', hKr, rfl⟩, mput_world hd hC hP hB hF⟩, hF.1, fun q hq hn => hF.2 q hq (fun hA => hn (mIn_A hC hA))⟩, L, hL, fun q hq => mIn_A hC (hfree q hq)⟩
