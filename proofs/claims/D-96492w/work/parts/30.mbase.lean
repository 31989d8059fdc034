/-! THE MODEL's memory as functions; its rows -/
set_option maxRecDepth 100000
abbrev aCl : List vw_C := [(RX0, TX0, 10), (RX1, TX1, 2), (RX2, TX2, 12), (RX3, TX3, 8), (RX4, TX4, 13), (RX5, TX5, 1), (RX6, TX6, 59), (RX7, TX7, 7), (RX7, TX7, 7), (RX9, TX9, 1), (RX10, TX10, 1), (RX11, TX11, 1), (RX12, TX12, 1), (RX13, TX13, 2), (RX14, TX14, 2), (RX15, TX15, 2), (RX16, TX16, 2), (RX17, TX17, 2), (RX18, TX18, 2), (RX19, TX19, 2), (RX20, TX20, 4), (RX21, TX21, 7)]
/-- the array classes -/
def aT (dT : Nat → ClassId) : List (ClassId × FieldType) := [(dT 0, .int), (dT 1, .long), (dT 2, .byte), (dT 3, .short), (dT 4, .object RX5), (dT 5, .object RX2), (dT 6, .array .int), (dT 7, .object RX13)]
abbrev MS : Type := (Nat → Int32) × (Nat → Nat → Int32) × (Nat → Nat → Int64)
/-- the fuel of every loop; a chosen number, so that nothing unfolds it -/
noncomputable def NF : Nat := Classical.choose (⟨2000, rfl⟩ : ∃ n : Nat, n = 2000)
theorem NF_eq : NF = 2000 := Classical.choose_spec (⟨2000, rfl⟩ : ∃ n : Nat, n = 2000)
def obd {α : Type} (o : Option α) (K : α → Prop) : Prop := ∃ v, o = some v ∧ K v
theorem obd_some {α : Type} {v : α} {K : α → Prop} : obd (some v) K ↔ K v := ⟨fun ⟨_, e, h⟩ => by cases e; exact h, fun h => ⟨v, rfl, h⟩⟩
def jn {α : Type} (K : α) (B : α → Prop) : Prop := B K
theorem jn_ex {α : Type} {K : α} {B : α → Prop} (h : jn K B) : ∃ k, k = K ∧ B k := ⟨K, rfl, h⟩
theorem ifp {c : Prop} [Decidable c] {a b : Prop} (h : c) (k : if c then a else b) : a := by rw [if_pos h] at k; exact k
theorem ifn {c : Prop} [Decidable c] {a b : Prop} (h : ¬ c) (k : if c then a else b) : b := by rw [if_neg h] at k; exact k
theorem sw_out {x : Int32} {lo hi : Int} (h : ∀ k : Int, lo ≤ k → k ≤ hi → ¬ x.toInt = k) : x.toInt < lo ∨ hi < x.toInt := by
  by_cases h1 : x.toInt < lo
  · exact Or.inl h1
  · by_cases h2 : hi < x.toInt
    · exact Or.inr h2
    · exact absurd rfl (h x.toInt (by omega) (by omega))
def mIdsI : List Nat := [10, 11, 12, 13, 14, 15, 16, 17, 18, 19, 20, 21, 22, 25, 26, 27, 33, 34, 47, 48, 49, 51, 52, 53, 54, 55, 56]
def mIdsL : List Nat := [23, 24]
def mIds : List Nat := [10, 11, 12, 13, 14, 15, 16, 17, 18, 19, 20, 21, 22, 25, 26, 27, 33, 34, 47, 48, 49, 51, 52, 53, 54, 55, 56, 23, 24]
def mInt (k : Nat) : Bool := mIdsI.elem k
def mLng (k : Nat) : Bool := mIdsL.elem k
def mLen (k : Nat) : Nat := match k with
  | 23 => 1280
  | 24 => 160
  | 25 => 48
  | 27 => 3
  | 33 => 80
  | 34 => 80
  | 47 => 40
  | 48 => 5
  | 49 => 5
  | 56 => 20
  | _ => 8
/-- which fields hold arrays -/
def mRef (k : Nat) : Bool := mIds.elem k
def mV (ad : Nat → Nat) (S : MS) (j : Nat) : Value := match mRef j with
  | true => .ref (ad j)
  | false => .int (S.1 j)
def mFs (ad : Nat → Nat) (S : MS) : List Value := (List.range 59).map (mV ad S)
def mE (dT : Nat → ClassId) (S : MS) (k : Nat) : va_E := match mLng k with
  | true => .inl (dT 1, mLen k, .inr (.inl (S.2.2 k)))
  | false => .inl (dT 0, mLen k, .inl (S.2.1 k))
def mw (h : Nat) (ad : Nat → Nat) (dT : Nat → ClassId) (S : MS) : va_W := (h, .inr (6, mFs ad S)) :: mIds.map (fun k => (ad k, mE dT S k))
def mset (S : MS) (k : Nat) (v : Int32) : MS := (upd S.1 k v, S.2)
def mald (S : MS) (k : Nat) (i : Int32) : Option Int32 := if i < 0 ∨ mLen k ≤ i.toNatClampNeg then none else some (S.2.1 k i.toNatClampNeg)
def mlld (S : MS) (k : Nat) (i : Int32) : Option Int64 := if i < 0 ∨ mLen k ≤ i.toNatClampNeg then none else some (S.2.2 k i.toNatClampNeg)
def mast (S : MS) (k : Nat) (i : Int32) (v : Int32) : Option MS := if i < 0 ∨ mLen k ≤ i.toNatClampNeg then none else some (S.1, va_up S.2.1 k (upd (S.2.1 k) i.toNatClampNeg v), S.2.2)
def mlst (S : MS) (k : Nat) (i : Int32) (v : Int64) : Option MS := if i < 0 ∨ mLen k ≤ i.toNatClampNeg then none else some (S.1, S.2.1, va_up S.2.2 k (vp_updL (S.2.2 k) i.toNatClampNeg v))
def isB (r : Int32) : Prop := narrow .boolean (.int r) = .int r
theorem isB0 : isB 0 := rfl
theorem isB1 : isB 1 := rfl
theorem mFs_get {ad : Nat → Nat} {S : MS} {k : Nat} (h : k < 59) : (mFs ad S)[k]? = some (mV ad S k) := by
  unfold mFs
  rw [List.getElem?_map, List.getElem?_range h]
  rfl
theorem mFs_len {ad : Nat → Nat} {S : MS} : (mFs ad S).length = 59 := by
  unfold mFs
  rw [List.length_map, List.length_range]
theorem mFs_set {ad : Nat → Nat} {S : MS} {k : Nat} {v : Int32} (h : k < 59) (hk : mRef k = false) : (mFs ad S).set k (.int v) = mFs ad (mset S k v) := by
  apply List.ext_getElem?
  intro j
  by_cases hj : j = k
  · subst hj
    rw [List.getElem?_set_self (by rw [mFs_len]; exact h), mFs_get h]
    simp [mV, hk, mset, upd]
  · rw [List.getElem?_set_ne (Ne.symm hj)]
    by_cases hl : j < 59
    · rw [mFs_get hl, mFs_get hl]
      simp [mV, mset, upd, hj]
    · rw [List.getElem?_eq_none (by rw [mFs_len]; omega), List.getElem?_eq_none (by rw [mFs_len]; omega)]
theorem mFs_S1 {ad : Nat → Nat} {S S' : MS} (h : S.1 = S'.1) : mFs ad S = mFs ad S' := by
  unfold mFs mV
  rw [h]
theorem mw_0 {h : Nat} {ad : Nat → Nat} {dT : Nat → ClassId} {S : MS} : (mw h ad dT S)[0]? = some (h, .inr (6, mFs ad S)) := rfl
theorem mw_set {h : Nat} {ad : Nat → Nat} {dT : Nat → ClassId} {S : MS} {k : Nat} {v : Int32} (hk9 : k < 59) (hk : mRef k = false) : (mw h ad dT S).set 0 (h, .inr (6, (mFs ad S).set k (.int v))) = mw h ad dT (mset S k v) := by
  rw [mFs_set hk9 hk]
  rfl
theorem mIds_of {k : Nat} (h : mRef k = true) : k ∈ mIds := List.elem_iff.mp h
theorem mInt_ref : ∀ k, k ∈ mIdsI → k ∈ mIds ∧ mLng k = false := by decide
theorem mLng_ref : ∀ k, k ∈ mIdsL → k ∈ mIds ∧ mLng k = true := by decide
theorem mw_arr {h : Nat} {ad : Nat → Nat} {dT : Nat → ClassId} {S : MS} {k : Nat} (hk : k ∈ mIds) : ∃ i, mIds[i]? = some k ∧ (mw h ad dT S)[i + 1]? = some (ad k, mE dT S k) := by
  obtain ⟨i, hi⟩ := List.getElem?_of_mem hk
  refine ⟨i, hi, ?_⟩
  show (mIds.map (fun k => (ad k, mE dT S k)))[i]? = _
  rw [List.getElem?_map, hi]
  rfl
theorem mIds_nd : ∀ (i j a : Nat), mIds[i]? = some a → mIds[j]? = some a → i = j := va_nd_inj mIds (by decide)
theorem map_set {α : Type} {l : List Nat} {g g' : Nat → α} {i k : Nat} (hn : ∀ (i j a : Nat), l[i]? = some a → l[j]? = some a → i = j) (hi : l[i]? = some k) (hg : ∀ j, j ≠ k → g' j = g j) : (l.map g).set i (g' k) = l.map g' := by
  have hlt : i < l.length := (List.getElem?_eq_some_iff.mp hi).1
  apply List.ext_getElem?
  intro j
  by_cases hj : j = i
  · subst hj
    rw [List.getElem?_set_self (by rw [List.length_map]; exact hlt), List.getElem?_map, hi]
    rfl
  · rw [List.getElem?_set_ne (Ne.symm hj), List.getElem?_map, List.getElem?_map]
    cases hb : l[j]? with
    | none => rfl
    | some b =>
      have hbk : b ≠ k := fun e => hj (hn j i k (by rw [hb, e]) hi)
      show some (g b) = some (g' b)
      rw [hg b hbk]
theorem mw_setA {h : Nat} {ad : Nat → Nat} {dT : Nat → ClassId} {S S' : MS} {i k : Nat} (hi : mIds[i]? = some k) (h1 : S'.1 = S.1) (hE : ∀ j, j ≠ k → mE dT S' j = mE dT S j) : (mw h ad dT S).set (i + 1) (ad k, mE dT S' k) = mw h ad dT S' := by
  show (h, .inr (6, mFs ad S)) :: (mIds.map (fun k => (ad k, mE dT S k))).set i (ad k, mE dT S' k) = (h, .inr (6, mFs ad S')) :: mIds.map (fun k => (ad k, mE dT S' k))
  rw [mFs_S1 (ad := ad) h1, map_set (g' := fun k => (ad k, mE dT S' k)) mIds_nd hi (fun j hj => by rw [hE j hj])]
theorem mE_I {dT : Nat → ClassId} {S : MS} {k : Nat} (h : mLng k = false) : mE dT S k = .inl (dT 0, mLen k, .inl (S.2.1 k)) := by simp [mE, h]
theorem mE_L {dT : Nat → ClassId} {S : MS} {k : Nat} (h : mLng k = true) : mE dT S k = .inl (dT 1, mLen k, .inr (.inl (S.2.2 k))) := by simp [mE, h]
def mI (D : va_G) (dT : Nat → ClassId) (A : Nat → Prop) (H0 : Heap) (h : Nat) (ad : Nat → Nat) (S : MS) (H : Heap) (locs : List Loc) : Prop := va_P D aCl (mw h ad dT S) H ∧ va_D A (mw h ad dT S) ∧ va_S A H0 H locs
def mX (p : Program) (s : State) (m : MethodId) (args : Array Value) (meth : Method) (c : Code) (cc : ByteArray) (nL : Nat) (ret : Option FieldType) : Prop := p.tables.exec = Jvm.exec ∧ c.code = cc ∧ meth.sig.returnType = ret ∧ c.maxLocals = nL ∧ (∀ w ∈ lw_all, w.before args s = true) ∧ s.vm.findClass RX6 = some m.cls ∧ meth.locks = false
section MROWS
variable {p : Program} {l : Launch} {e : Env} {R : Room} {s : State} {m : MethodId} {args : Array Value} {below : List Frame} {meth : Method} {c : Code} {H : Heap} {locs : List Loc} {cells slots : Nat} {Q : State → Prop}
variable {cc : ByteArray} {nL : Nat} {ret : Option FieldType} {pc : Nat} {ls : Array Slot} {rest : List Value} {D : va_G} {dT : Nat → ClassId} {A : Nat → Prop} {h : Nat} {ad : Nat → Nat} {S : MS}
/-- getfield of an int, of an array -/
theorem m_geti (X : mX p s m args meth c cc nL ret) (hK : va_K D aCl (aT dT) s) (hM : mI D dT A s.heap h ad S H locs) (k : Nat) {v : Value} {index : Nat} (hlink : Cond.fieldLink RX6 index RX6 (TX6 k).2.1 (TX6 k).2.2.1 ∈ lw_all) (hk : Nat.blt k 59 = true) (hT : (TX6 k).1 = RX6) (hv : mV ad S k = v) (hdg : decode cc pc = .ok (.getfield index, 3))
    (kk : W p l e R s m args below meth c H locs cells slots Q (F0 m (pc + 3) ls (v :: rest))) : W p l e R s m args below meth c H locs cells slots Q (F0 m pc ls (.ref h :: rest)) := by
  have hk : k < 59 := Nat.le_of_ble_eq_true hk
  exact va_get (ci := 6) (C := RX6) (T := TX6) (N := 59) (ref := RX6) X.1 X.2.1 X.2.2.2.2.1 in_X6 X.2.2.2.2.2.1 hK hM.1 0 mw_0 rfl k hk (X.2.2.2.2.1 _ hlink) (fun x hx => by rw [hT] at hx; exact hx) (by rw [mFs_get hk, hv]) hdg kk
theorem m_puti (X : mX p s m args meth c cc nL ret) (hK : va_K D aCl (aT dT) s) (hM : mI D dT A s.heap h ad S H locs) (k : Nat) {v : Int32} {index : Nat} (hlink : Cond.fieldLink RX6 index RX6 (TX6 k).2.1 (TX6 k).2.2.1 ∈ lw_all) (hk : Nat.blt k 59 = true) (hr : mRef k = false) (hT : (TX6 k).1 = RX6) (hF : (TX6 k).2.2.2 = false) (hn : narrow (tyX6 k) (.int v) = .int v) (hfit : fits (tyX6 k) (.int v) = true) (hdg : decode cc pc = .ok (.putfield index, 3))
    (kk : ∀ (H1 : Heap) (locs1 : List Loc), mI D dT A s.heap h ad (mset S k v) H1 locs1 → W p l e R s m args below meth c H1 locs1 cells slots Q (F0 m (pc + 3) ls rest)) : W p l e R s m args below meth c H locs cells slots Q (F0 m pc ls (.int v :: .ref h :: rest)) := by
  have hk : k < 59 := Nat.le_of_ble_eq_true hk
  refine va_put (ci := 6) (C := RX6) (T := TX6) (N := 59) (ref := RX6) X.1 X.2.1 X.2.2.2.2.1 in_X6 tyX6 tyX6_ok nmX6 X.2.2.2.2.2.1 hK hM.1 hM.2.1 hM.2.2 0 mw_0 rfl k hk (X.2.2.2.2.1 _ hlink) (fun x hx => by rw [hT] at hx; exact hx) hF (tyX6_ok k hk) hn hfit (by rw [mFs_len]; exact hk) hdg (fun H1 locs1 a b c => ?_)
  rw [mw_set hk hr] at a b
  exact kk H1 locs1 ⟨a, b, c⟩
theorem m_iald (X : mX p s m args meth c cc nL ret) (hK : va_K D aCl (aT dT) s) (hM : mI D dT A s.heap h ad S H locs) {k : Nat} {i v : Int32} (hk : mInt k = true) (hv : mald S k i = some v) (hdg : decode cc pc = .ok (.iaload, 1))
    (kk : W p l e R s m args below meth c H locs cells slots Q (F0 m (pc + 1) ls (.int v :: rest))) : W p l e R s m args below meth c H locs cells slots Q (F0 m pc ls (.int i :: .ref (ad k) :: rest)) := by
  obtain ⟨h1, h2⟩ := mInt_ref k (List.elem_iff.mp hk)
  obtain ⟨i0, -, h3⟩ := mw_arr (h := h) (ad := ad) (dT := dT) (S := S) h1
  rw [mE_I h2] at h3
  unfold mald at hv
  by_cases hc : i < 0 ∨ mLen k ≤ i.toNatClampNeg
  · rw [if_pos hc] at hv; cases hv
  · rw [if_neg hc] at hv
    cases hv
    exact va_iald X.1 X.2.1 hK hM.1 (i0 + 1) 0 h3 rfl hc hdg kk
theorem m_lald (X : mX p s m args meth c cc nL ret) (hK : va_K D aCl (aT dT) s) (hM : mI D dT A s.heap h ad S H locs) {k : Nat} {i : Int32} {v : Int64} (hk : mLng k = true) (hv : mlld S k i = some v) (hdg : decode cc pc = .ok (.laload, 1))
    (kk : W p l e R s m args below meth c H locs cells slots Q (F0 m (pc + 1) ls (.long v :: rest))) : W p l e R s m args below meth c H locs cells slots Q (F0 m pc ls (.int i :: .ref (ad k) :: rest)) := by
  obtain ⟨h1, h2⟩ := mLng_ref k (List.elem_iff.mp hk)
  obtain ⟨i0, -, h3⟩ := mw_arr (h := h) (ad := ad) (dT := dT) (S := S) h1
  rw [mE_L h2] at h3
  unfold mlld at hv
  by_cases hc : i < 0 ∨ mLen k ≤ i.toNatClampNeg
  · rw [if_pos hc] at hv; cases hv
  · rw [if_neg hc] at hv
    cases hv
    exact va_lald X.1 X.2.1 hK hM.1 (i0 + 1) 1 h3 rfl hc hdg kk
theorem m_iast (X : mX p s m args meth c cc nL ret) (hK : va_K D aCl (aT dT) s) (hM : mI D dT A s.heap h ad S H locs) {k : Nat} {i v : Int32} {S' : MS} (hk : mInt k = true) (hv : mast S k i v = some S') (hdg : decode cc pc = .ok (.iastore, 1))
    (kk : ∀ (H1 : Heap) (locs1 : List Loc), mI D dT A s.heap h ad S' H1 locs1 → W p l e R s m args below meth c H1 locs1 cells slots Q (F0 m (pc + 1) ls rest)) : W p l e R s m args below meth c H locs cells slots Q (F0 m pc ls (.int v :: .int i :: .ref (ad k) :: rest)) := by
  obtain ⟨h1, h2⟩ := mInt_ref k (List.elem_iff.mp hk)
  obtain ⟨i0, h4, h3⟩ := mw_arr (h := h) (ad := ad) (dT := dT) (S := S) h1
  rw [mE_I h2] at h3
  unfold mast at hv
  by_cases hc : i < 0 ∨ mLen k ≤ i.toNatClampNeg
  · rw [if_pos hc] at hv; cases hv
  · rw [if_neg hc] at hv
    cases hv
    refine va_iast X.1 X.2.1 hK hM.1 hM.2.1 hM.2.2 (i0 + 1) 0 h3 rfl hc hdg (fun H1 locs1 a b d => ?_)
    have e := mw_setA (h := h) (ad := ad) (dT := dT) (S := S) (S' := (S.1, va_up S.2.1 k (upd (S.2.1 k) i.toNatClampNeg v), S.2.2)) h4 rfl (fun j hj => by simp [mE, va_up, hj])
    rw [mE_I h2, show ((S.1, va_up S.2.1 k (upd (S.2.1 k) i.toNatClampNeg v), S.2.2) : MS).2.1 k = upd (S.2.1 k) i.toNatClampNeg v from va_up_self _ _ _] at e
    rw [e] at a b
    exact kk H1 locs1 ⟨a, b, d⟩
theorem m_last (X : mX p s m args meth c cc nL ret) (hK : va_K D aCl (aT dT) s) (hM : mI D dT A s.heap h ad S H locs) {k : Nat} {i : Int32} {v : Int64} {S' : MS} (hk : mLng k = true) (hv : mlst S k i v = some S') (hdg : decode cc pc = .ok (.lastore, 1))
    (kk : ∀ (H1 : Heap) (locs1 : List Loc), mI D dT A s.heap h ad S' H1 locs1 → W p l e R s m args below meth c H1 locs1 cells slots Q (F0 m (pc + 1) ls rest)) : W p l e R s m args below meth c H locs cells slots Q (F0 m pc ls (.long v :: .int i :: .ref (ad k) :: rest)) := by
  obtain ⟨h1, h2⟩ := mLng_ref k (List.elem_iff.mp hk)
  obtain ⟨i0, h4, h3⟩ := mw_arr (h := h) (ad := ad) (dT := dT) (S := S) h1
  rw [mE_L h2] at h3
  unfold mlst at hv
  by_cases hc : i < 0 ∨ mLen k ≤ i.toNatClampNeg
  · rw [if_pos hc] at hv; cases hv
  · rw [if_neg hc] at hv
    cases hv
    refine va_last X.1 X.2.1 hK hM.1 hM.2.1 hM.2.2 (i0 + 1) 1 h3 rfl hc hdg (fun H1 locs1 a b d => ?_)
    have e := mw_setA (h := h) (ad := ad) (dT := dT) (S := S) (S' := (S.1, S.2.1, va_up S.2.2 k (vp_updL (S.2.2 k) i.toNatClampNeg v))) h4 rfl (fun j hj => by simp [mE, va_up, hj])
    rw [mE_L h2, show ((S.1, S.2.1, va_up S.2.2 k (vp_updL (S.2.2 k) i.toNatClampNeg v)) : MS).2.2 k = vp_updL (S.2.2 k) i.toNatClampNeg v from va_up_self _ _ _] at e
    rw [e] at a b
    exact kk H1 locs1 ⟨a, b, d⟩
end MROWS
abbrev mRm (fr lo : Nat) : Room := { frames := fr, cells := 0, slots := 0, locals := lo }
def mPre (D : va_G) (dT : Nat → ClassId) (h : Nat) (ad : Nat → Nat) (S : MS) (sz : Nat) (av : List Value) : Array Value → State → Prop := va_Pc (.ref h :: av) (fun U => U.heap.size = sz ∧ va_P D aCl (mw h ad dT S) U.heap ∧ va_K D aCl (aT dT) U ∧ va_D (fun _ => True) (mw h ad dT S))
def mB (D : va_G) (dT : Nat → ClassId) (h : Nat) (ad : Nat → Nat) (A : Nat → Prop) (S' : MS) (t : State) : Prop := va_P D aCl (mw h ad dT S') t.heap ∧ va_K D aCl (aT dT) t ∧ va_D A (mw h ad dT S')
abbrev mQi (D : va_G) (dT : Nat → ClassId) (h : Nat) (ad : Nat → Nat) (K : Int32 → MS → Prop) (A : Nat → Prop) : Array Value → State → Outcome → State → Prop := va_Qi K (mB D dT h ad A) A
abbrev mQl (D : va_G) (dT : Nat → ClassId) (h : Nat) (ad : Nat → Nat) (K : Int64 → MS → Prop) (A : Nat → Prop) : Array Value → State → Outcome → State → Prop := va_Ql K (mB D dT h ad A) A
abbrev mQz (D : va_G) (dT : Nat → ClassId) (h : Nat) (ad : Nat → Nat) (K : Int32 → MS → Prop) (A : Nat → Prop) : Array Value → State → Outcome → State → Prop := va_Qi (fun r S => isB r ∧ K r S) (mB D dT h ad A) A
abbrev mQv (D : va_G) (dT : Nat → ClassId) (h : Nat) (ad : Nat → Nat) (K : MS → Prop) (A : Nat → Prop) : Array Value → State → Outcome → State → Prop := va_Qv K (mB D dT h ad A) A
/-- a contract of the model's: from the state S, with the arguments av (which may name the model's own arrays) -/
def mMet (l : Launch) (y : MethodName) (cc : ByteArray) (nL : Nat) (ret : Option FieldType) (fr lo : Nat) (S : MS) (av : (Nat → Nat) → List Value) (Qc : va_G → (Nat → ClassId) → Nat → (Nat → Nat) → (Nat → Prop) → Array Value → State → Outcome → State → Prop) : Prop :=
  ∀ (D : va_G) (dT : Nat → ClassId) (h : Nat) (ad : Nat → Nat) (sz : Nat), Met l y (ws_ y cc nL ret) (mRm fr lo) (mPre D dT h ad S sz (av ad)) (Qc D dT h ad (va_A (mw h ad dT S) sz)) 0 0 (va_A (mw h ad dT S) sz)
abbrev mMeti (l : Launch) (y : MethodName) (cc : ByteArray) (nL : Nat) (fr lo : Nat) (S : MS) (av : (Nat → Nat) → List Value) (K : Int32 → MS → Prop) : Prop := mMet l y cc nL (some .int) fr lo S av (fun D dT h ad A => mQi D dT h ad K A)
abbrev mMetl (l : Launch) (y : MethodName) (cc : ByteArray) (nL : Nat) (fr lo : Nat) (S : MS) (av : (Nat → Nat) → List Value) (K : Int64 → MS → Prop) : Prop := mMet l y cc nL (some .long) fr lo S av (fun D dT h ad A => mQl D dT h ad K A)
abbrev mMetz (l : Launch) (y : MethodName) (cc : ByteArray) (nL : Nat) (fr lo : Nat) (S : MS) (av : (Nat → Nat) → List Value) (K : Int32 → MS → Prop) : Prop := mMet l y cc nL (some .boolean) fr lo S av (fun D dT h ad A => mQz D dT h ad K A)
abbrev mMetv (l : Launch) (y : MethodName) (cc : ByteArray) (nL : Nat) (fr lo : Nat) (S : MS) (av : (Nat → Nat) → List Value) (K : MS → Prop) : Prop := mMet l y cc nL none fr lo S av (fun D dT h ad A => mQv D dT h ad K A)
/-- from the contract to the body -/
theorem mEnter {l : Launch} {y : MethodName} {cc : ByteArray} {nL fr lo : Nat} {ret : Option FieldType} {D : va_G} {dT : Nat → ClassId} {h : Nat} {ad : Nat → Nat} {S : MS} {sz : Nat} {av : List Value} {Qc : (Nat → Prop) → Array Value → State → Outcome → State → Prop} (hy : plainName y.cls = true) (hc : y.cls = RX6) (hn : Nat.ble (lg_sl (.ref h :: av)).length nL = true)
    (k : ∀ (p : Program) (e : Env) (s : State) (m : MethodId) (args : Array Value) (below : List Frame) (meth : Method) (c : Code) (A : Nat → Prop) (ls : Array Slot), mX p s m args meth c cc nL ret → va_K D aCl (aT dT) s → (∀ q : Nat, s.heap.size ≤ q → A q) → mI D dT A s.heap h ad S s.heap [] → lv_has ls nL (lv_args 0 (.ref h :: av)) → W p l e (mRm fr lo) s m args below meth c s.heap [] 0 0 (MQ below (Qc A) args s 0 0 A) (F0 m 0 ls [])) :
    Met l y (ws_ y cc nL ret) (mRm fr lo) (mPre D dT h ad S sz av) (Qc (va_A (mw h ad dT S) sz)) 0 0 (va_A (mw h ad dT S) sz) := by
  refine Met.ofW (cc := cc) (maxL := nL) (ret := ret) hy rfl ?_
  intro p e s m args below meth c s₁ B hml hv
  obtain ⟨rfl, hsz, hP, hK, hD0⟩ := hv
  have hts := atoms_spec (ws := ws_ y cc nL ret) B.pre
  have hts : ∀ w ∈ lw_all, w.before _ s = true := fun w h => hts w (List.mem_cons_of_mem _ h)
  have hown : s.vm.findClass y.cls = some m.cls := findClass_of_methodNamed B.named
  rw [hc] at hown
  subst hsz
  have hl := lv_entry (.ref h :: av) (n := nL) (Nat.le_of_ble_eq_true hn)
  rw [lg_entry_eq]
  exact k p e s m _ below meth c _ _ ⟨B.exec, B.bytes, B.returns, hml, hts, hown, B.notSynchronized⟩ hK (fun q h => Or.inr h) ⟨hP, hD0.self, va_S.rf⟩ hl
section MENDS
variable {p : Program} {l : Launch} {e : Env} {R : Room} {s : State} {m : MethodId} {args : Array Value} {below : List Frame} {meth : Method} {c : Code} {H : Heap} {locs : List Loc} {Q : State → Prop}
variable {cc : ByteArray} {nL fr lo : Nat} {ret : Option FieldType} {pc : Nat} {ls : Array Slot} {rest st0 : List Value} {D : va_G} {dT : Nat → ClassId} {A : Nat → Prop} {h : Nat} {ad : Nat → Nat} {S : MS}
theorem m_reti {K : Int32 → MS → Prop} {v : Int32} (X : mX p s m args meth c cc nL (some .int)) (hK : va_K D aCl (aT dT) s) (hM : mI D dT A s.heap h ad S H locs) (hq : K v S) (hdg : decode cc pc = .ok (.ireturn, 1)) : W p l e R s m args below meth c H locs 0 0 (MQ below (mQi D dT h ad K A) args s 0 0 A) (F0 m pc ls [.int v]) :=
  W.iret X.1 X.2.1 X.2.2.1 (fun t ht hW => ⟨⟨v, S, rfl, hq, by rw [ht]; exact hM.1, va_K.moved hW.alike hK, hM.2.1⟩, hM.2.2.F ht⟩) hM.2.2.2.2 hdg X.2.2.2.2.2.2
theorem m_retz {K : Int32 → MS → Prop} {v : Int32} (X : mX p s m args meth c cc nL (some .boolean)) (hK : va_K D aCl (aT dT) s) (hM : mI D dT A s.heap h ad S H locs) (hB : isB v) (hq : K v S) (hdg : decode cc pc = .ok (.ireturn, 1)) : W p l e R s m args below meth c H locs 0 0 (MQ below (mQz D dT h ad K A) args s 0 0 A) (F0 m pc ls [.int v]) :=
  W.zret X.1 X.2.1 X.2.2.1 hB (fun t ht hW => ⟨⟨v, S, rfl, ⟨hB, hq⟩, by rw [ht]; exact hM.1, va_K.moved hW.alike hK, hM.2.1⟩, hM.2.2.F ht⟩) hM.2.2.2.2 hdg X.2.2.2.2.2.2
theorem m_retl {K : Int64 → MS → Prop} {v : Int64} (X : mX p s m args meth c cc nL (some .long)) (hK : va_K D aCl (aT dT) s) (hM : mI D dT A s.heap h ad S H locs) (hq : K v S) (hdg : decode cc pc = .ok (.lreturn, 1)) : W p l e R s m args below meth c H locs 0 0 (MQ below (mQl D dT h ad K A) args s 0 0 A) (F0 m pc ls [.long v]) :=
  W.lret X.1 X.2.1 X.2.2.1 (fun t ht hW => ⟨⟨v, S, rfl, hq, by rw [ht]; exact hM.1, va_K.moved hW.alike hK, hM.2.1⟩, hM.2.2.F ht⟩) hM.2.2.2.2 hdg X.2.2.2.2.2.2
theorem m_retv {K : MS → Prop} (X : mX p s m args meth c cc nL none) (hK : va_K D aCl (aT dT) s) (hM : mI D dT A s.heap h ad S H locs) (hq : K S) (hdg : decode cc pc = .ok (.return_, 1)) : W p l e R s m args below meth c H locs 0 0 (MQ below (mQv D dT h ad K A) args s 0 0 A) (F0 m pc ls []) :=
  W.vret X.1 X.2.1 X.2.2.1 (fun t ht hW => ⟨⟨S, rfl, hq, by rw [ht]; exact hM.1, va_K.moved hW.alike hK, hM.2.1⟩, hM.2.2.F ht⟩) hM.2.2.2.2 hdg X.2.2.2.2.2.2
/-- what a call of the model's method y asks of the tables -/
def mInf (y : MethodName) (bytes : ByteArray) (maxL : Nat) (r : Option FieldType) (n : Nat) : Prop := Cond.instanceMethod y ∈ lw_all ∧ Cond.selects RX6 y y ∈ lw_all ∧ Cond.code y bytes maxL r ∈ lw_all ∧ (y.cls = RX6 ∧ y.cls ≠ "java/lang/invoke/MethodHandle" ∧ y.cls ≠ "java/lang/invoke/VarHandle" ∧ (parseMethodDescriptor y.desc).map (fun d => d.parameters.length) = some n)
theorem m_run (X : mX p s m args meth c cc nL ret) (hK : va_K D aCl (aT dT) s) (hM : mI D dT A s.heap h ad S H locs) {y : MethodName} {bytes : ByteArray} {maxL fr' lo' index n : Nat} {r : Option FieldType} {av : (Nat → Nat) → List Value} {Qc : va_G → (Nat → ClassId) → Nat → (Nat → Nat) → (Nat → Prop) → Array Value → State → Outcome → State → Prop} (hC : mMet l y bytes maxL r fr' lo' S av Qc) (hI : mInf y bytes maxL r n) (w1 : Cond.methodLink RX6 index y ∈ lw_all) (hR : fr' + 1 ≤ fr ∧ 8 + (maxL + 11) + lo' ≤ lo) (hlen : (av ad).length = n) (hsz : ls.size = nL) (hst : st0 = (av ad).reverse ++ .ref h :: rest) (hrm : (rest.map fun v => v.category).sum ≤ 8) (hdg : decode cc pc = .ok (.invokevirtual index, 3)) :
    va_Run p l e (mRm fr lo) s m args below meth c H locs 0 0 0 0 (F0 m pc ls st0) rest (Qc D dT h ad (va_A (mw h ad dT S) H.size) (Value.ref h :: av ad).toArray) (va_A (mw h ad dT S) H.size) := by
  obtain ⟨w2, w3, w5, hd⟩ := hI
  refine va_runV (As := av ad) (rest := rest) (nL := nL) ⟨X.1, X.2.1, X.2.2.2.1, X.2.2.2.2.2.1, X.2.2.2.2.1⟩ (hC D dT h ad H.size) (cwV n X.2.2.2.2.1 (lw_V w1 w2 w3 q100 w5) rfl rfl rfl hd hR) ⟨?_, ?_, ?_⟩ rfl hlen hsz hst (lv_room hrm) hdg ⟨Nat.zero_le _, Nat.zero_le _⟩
  · intro a U g mk q
    obtain ⟨q0, q1, qP, qK, qD⟩ := q
    exact ⟨q0, q1, qP, va_K.moved (u := U) (U := U.calling g mk a) (Vm.Alike.refl U.vm) qK, qD⟩
  · exact va_recv hK hM.1 (ci := 6) (q0 := 0) rfl mw_0
  · intro U hU hW
    exact ⟨rfl, by rw [hU], by rw [hU]; exact hM.1, va_K.moved hW.alike hK, hM.2.1.weaken (fun _ _ _ _ => trivial)⟩
theorem m_back {A0 : Nat → Prop} {H1 : Heap} {locs1 : List Loc} {S' : MS} {t : State} (hA : ∀ q : Nat, s.heap.size ≤ q → A q) (hM : mI D dT A s.heap h ad S H locs) (hB : mB D dT h ad (va_A (mw h ad dT S) H.size) S' t) (ht : t.heap = H1) (hS : va_S A s.heap H1 locs1) : mI D dT A s.heap h ad S' H1 locs1 := by
  refine ⟨by rw [← ht]; exact hB.1, hB.2.2.weaken (fun k q _ hq => ?_), hS⟩
  rcases hq with ⟨k2, e2, h2⟩ | h2
  · exact hM.2.1.2 k2 (q.1, e2) h2
  · exact hA _ (Nat.le_trans hM.2.2.1 h2)
theorem m_sub (hA : ∀ q : Nat, s.heap.size ≤ q → A q) (hM : mI D dT A s.heap h ad S H locs) : ∀ q : Nat, va_A (mw h ad dT S) H.size q → A q := by
  intro q hq
  rcases hq with ⟨k2, e2, h2⟩ | h2
  · exact hM.2.1.2 k2 (q, e2) h2
  · exact hA _ (Nat.le_trans hM.2.2.1 h2)
theorem m_calli (X : mX p s m args meth c cc nL ret) (hK : va_K D aCl (aT dT) s) (hA : ∀ q : Nat, s.heap.size ≤ q → A q) (hM : mI D dT A s.heap h ad S H locs) {y : MethodName} {bytes : ByteArray} {maxL fr' lo' index n : Nat} {av : (Nat → Nat) → List Value} {K : Int32 → MS → Prop} (hC : mMeti l y bytes maxL fr' lo' S av K) (hI : mInf y bytes maxL (some .int) n) (w1 : Cond.methodLink RX6 index y ∈ lw_all) (hR : fr' + 1 ≤ fr ∧ 8 + (maxL + 11) + lo' ≤ lo) (hlen : (av ad).length = n) (hsz : ls.size = nL) (hst : st0 = (av ad).reverse ++ .ref h :: rest) (hrm : (rest.map fun v => v.category).sum ≤ 8) (hdg : decode cc pc = .ok (.invokevirtual index, 3))
    (kk : ∀ (r : Int32) (S' : MS) (H1 : Heap) (locs1 : List Loc), K r S' → mI D dT A s.heap h ad S' H1 locs1 → W p l e (mRm fr lo) s m args below meth c H1 locs1 0 0 Q (F0 m (pc + 3) ls (.int r :: rest))) : W p l e (mRm fr lo) s m args below meth c H locs 0 0 Q (F0 m pc ls st0) :=
  va_calli (m_run X hK hM hC hI w1 hR hlen hsz hst hrm hdg) hM.2.2 (fun q _ hq => m_sub hA hM q hq) (m_sub hA hM) (fun r S' t H1 locs1 ht _ hp hB _ _ hS => kk r S' H1 locs1 hp (m_back (A0 := A) hA hM hB ht hS))
theorem m_callz (X : mX p s m args meth c cc nL ret) (hK : va_K D aCl (aT dT) s) (hA : ∀ q : Nat, s.heap.size ≤ q → A q) (hM : mI D dT A s.heap h ad S H locs) {y : MethodName} {bytes : ByteArray} {maxL fr' lo' index n : Nat} {av : (Nat → Nat) → List Value} {K : Int32 → MS → Prop} (hC : mMetz l y bytes maxL fr' lo' S av K) (hI : mInf y bytes maxL (some .boolean) n) (w1 : Cond.methodLink RX6 index y ∈ lw_all) (hR : fr' + 1 ≤ fr ∧ 8 + (maxL + 11) + lo' ≤ lo) (hlen : (av ad).length = n) (hsz : ls.size = nL) (hst : st0 = (av ad).reverse ++ .ref h :: rest) (hrm : (rest.map fun v => v.category).sum ≤ 8) (hdg : decode cc pc = .ok (.invokevirtual index, 3))
    (kk : ∀ (r : Int32) (S' : MS) (H1 : Heap) (locs1 : List Loc), isB r → K r S' → mI D dT A s.heap h ad S' H1 locs1 → W p l e (mRm fr lo) s m args below meth c H1 locs1 0 0 Q (F0 m (pc + 3) ls (.int r :: rest))) : W p l e (mRm fr lo) s m args below meth c H locs 0 0 Q (F0 m pc ls st0) :=
  va_calli (m_run X hK hM hC hI w1 hR hlen hsz hst hrm hdg) hM.2.2 (fun q _ hq => m_sub hA hM q hq) (m_sub hA hM) (fun r S' t H1 locs1 ht _ hp hB _ _ hS => kk r S' H1 locs1 hp.1 hp.2 (m_back (A0 := A) hA hM hB ht hS))
theorem m_callv (X : mX p s m args meth c cc nL ret) (hK : va_K D aCl (aT dT) s) (hA : ∀ q : Nat, s.heap.size ≤ q → A q) (hM : mI D dT A s.heap h ad S H locs) {y : MethodName} {bytes : ByteArray} {maxL fr' lo' index n : Nat} {av : (Nat → Nat) → List Value} {K : MS → Prop} (hC : mMetv l y bytes maxL fr' lo' S av K) (hI : mInf y bytes maxL none n) (w1 : Cond.methodLink RX6 index y ∈ lw_all) (hR : fr' + 1 ≤ fr ∧ 8 + (maxL + 11) + lo' ≤ lo) (hlen : (av ad).length = n) (hsz : ls.size = nL) (hst : st0 = (av ad).reverse ++ .ref h :: rest) (hrm : (rest.map fun v => v.category).sum ≤ 8) (hdg : decode cc pc = .ok (.invokevirtual index, 3))
    (kk : ∀ (S' : MS) (H1 : Heap) (locs1 : List Loc), K S' → mI D dT A s.heap h ad S' H1 locs1 → W p l e (mRm fr lo) s m args below meth c H1 locs1 0 0 Q (F0 m (pc + 3) ls rest)) : W p l e (mRm fr lo) s m args below meth c H locs 0 0 Q (F0 m pc ls st0) :=
  va_callv (m_run X hK hM hC hI w1 hR hlen hsz hst hrm hdg) hM.2.2 (fun q _ hq => m_sub hA hM q hq) (m_sub hA hM) (fun S' t H1 locs1 ht _ hp hB _ _ hS => kk S' H1 locs1 hp (m_back (A0 := A) hA hM hB ht hS))
end MENDS
