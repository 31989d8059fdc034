/-! contracts over the clean heap: entries, ends, calls -/
set_option maxRecDepth 100000
def xPre (D : va_G) (dT : Nat → ClassId) (adK adV : Nat → Nat) (C : XH) (sz : Nat) (av : List Value) : Array Value → State → Prop := va_Pc av (fun U => U.heap.size = sz ∧ xP D dT C U.heap ∧ va_K D aCl (aT dT) U ∧ xG adK adV (xA C sz) U U.heap)
def xB (D : va_G) (dT : Nat → ClassId) (A : Nat → Prop) (C' : XH) (t : State) : Prop := xP D dT C' t.heap ∧ va_K D aCl (aT dT) t ∧ ∀ (a : Nat) (e : XE), C' a = some e → A a
abbrev xQi (D : va_G) (dT : Nat → ClassId) (K : Int32 → XH → Prop) (A : Nat → Prop) : Array Value → State → Outcome → State → Prop := va_Qi K (xB D dT A) A
abbrev xQz (D : va_G) (dT : Nat → ClassId) (K : Int32 → XH → Prop) (A : Nat → Prop) : Array Value → State → Outcome → State → Prop := va_Qi (fun r C => isB r ∧ K r C) (xB D dT A) A
abbrev xQl (D : va_G) (dT : Nat → ClassId) (K : Int64 → XH → Prop) (A : Nat → Prop) : Array Value → State → Outcome → State → Prop := va_Ql K (xB D dT A) A
abbrev xQv (D : va_G) (dT : Nat → ClassId) (K : XH → Prop) (A : Nat → Prop) : Array Value → State → Outcome → State → Prop := va_Qv K (xB D dT A) A
abbrev xQr (D : va_G) (dT : Nat → ClassId) (K : Nat → XH → Prop) (A : Nat → Prop) : Array Value → State → Outcome → State → Prop := va_Qq (fun r C => ∃ q, r = some q ∧ K q C) (xB D dT A) A
abbrev xXC (D : va_G) (dT : Nat → ClassId) (EK : String → Addr → XH → Prop) (A : Nat → Prop) : String → Addr → State → State → Prop := vx_X EK (xB D dT A) A
/-- a contract: from the clean heap C; the answer's Qc; at most mc new cells of ms slots -/
def xMet (l : Launch) (y : MethodName) (ws : List Cond) (fr lo mc ms : Nat) (C : XH) (av : List Value) (Qc : va_G → (Nat → ClassId) → (Nat → Prop) → Array Value → State → Outcome → State → Prop) : Prop :=
  ∀ (D : va_G) (dT : Nat → ClassId) (adK adV : Nat → Nat) (sz : Nat), Met l y ws (xRm fr lo mc ms) (xPre D dT adK adV C sz av) (Qc D dT (xA C sz)) mc ms (xA C sz)
/-- .. of a method that may throw -/
def xMetX (l : Launch) (y : MethodName) (ws : List Cond) (fr lo mc ms : Nat) (C : XH) (av : List Value) (Qc : va_G → (Nat → ClassId) → (Nat → Prop) → Array Value → State → Outcome → State → Prop) (EK : String → Addr → XH → Prop) : Prop :=
  ∀ (D : va_G) (dT : Nat → ClassId) (adK adV : Nat → Nat) (sz : Nat), vx_Met l y ws (xRm fr lo mc ms) (xPre D dT adK adV C sz av) (Qc D dT (xA C sz)) (xXC D dT EK (xA C sz)) mc ms (xA C sz)
abbrev xMeti (l : Launch) (y : MethodName) (ws : List Cond) (fr lo mc ms : Nat) (C : XH) (av : List Value) (K : Int32 → XH → Prop) : Prop := xMet l y ws fr lo mc ms C av (fun D dT A => xQi D dT K A)
abbrev xMetz (l : Launch) (y : MethodName) (ws : List Cond) (fr lo mc ms : Nat) (C : XH) (av : List Value) (K : Int32 → XH → Prop) : Prop := xMet l y ws fr lo mc ms C av (fun D dT A => xQz D dT K A)
abbrev xMetl (l : Launch) (y : MethodName) (ws : List Cond) (fr lo mc ms : Nat) (C : XH) (av : List Value) (K : Int64 → XH → Prop) : Prop := xMet l y ws fr lo mc ms C av (fun D dT A => xQl D dT K A)
abbrev xMetv (l : Launch) (y : MethodName) (ws : List Cond) (fr lo mc ms : Nat) (C : XH) (av : List Value) (K : XH → Prop) : Prop := xMet l y ws fr lo mc ms C av (fun D dT A => xQv D dT K A)
abbrev xMetr (l : Launch) (y : MethodName) (ws : List Cond) (fr lo mc ms : Nat) (C : XH) (av : List Value) (K : Nat → XH → Prop) : Prop := xMet l y ws fr lo mc ms C av (fun D dT A => xQr D dT K A)
/-- from the contract to the body: a method with no table of handlers that doesn't throw -/
theorem xEnter {l : Launch} {y : MethodName} {own : String} {cc : ByteArray} {nL fr lo mc ms : Nat} {ret : Option FieldType} {D : va_G} {dT : Nat → ClassId} {adK adV : Nat → Nat} {C : XH} {sz : Nat} {av : List Value} {Qc : (Nat → Prop) → Array Value → State → Outcome → State → Prop} (hy : plainName y.cls = true) (hc : y.cls = own) (hn : Nat.ble (lg_sl av).length nL = true)
    (k : ∀ (p : Program) (e : Env) (s : State) (m : MethodId) (args : Array Value) (below : List Frame) (meth : Method) (c : Code) (A : Nat → Prop) (ls : Array Slot), xX p s m args meth c own cc nL ret → meth.name = y.name → va_K D aCl (aT dT) s → (∀ q : Nat, s.heap.size ≤ q → A q) → xG adK adV A s s.heap → xI D dT A s.heap C s.heap [] → lv_has ls nL (lv_args 0 av) → W p l e (xRm fr lo mc ms) s m args below meth c s.heap [] 0 0 (MQ below (Qc A) args s mc ms A) (F0 m 0 ls [])) :
    Met l y (ws_ y cc nL ret) (xRm fr lo mc ms) (xPre D dT adK adV C sz av) (Qc (xA C sz)) mc ms (xA C sz) := by
  refine Met.ofW (cc := cc) (maxL := nL) (ret := ret) hy rfl ?_
  intro p e s m args below meth c s₁ B hml hv
  obtain ⟨rfl, hsz, hP, hK, hG⟩ := hv
  have hts := atoms_spec (ws := ws_ y cc nL ret) B.pre
  have hts : ∀ w ∈ lw_all, w.before _ s = true := fun w h => hts w (List.mem_cons_of_mem _ h)
  have hown : s.vm.findClass y.cls = some m.cls := findClass_of_methodNamed B.named
  rw [hc] at hown
  subst hsz
  have hl := lv_entry av (n := nL) (Nat.le_of_ble_eq_true hn)
  rw [lg_entry_eq]
  exact k p e s m _ below meth c _ _ ⟨B.exec, B.bytes, B.returns, hml, hts, hown, B.notSynchronized⟩ (name_of_methodNamed B.named B.method).1 hK (fun q h => Or.inr h) hG ⟨hP, fun a e h => Or.inl ⟨e, h⟩, va_S.rf⟩ hl
/-- .. that may throw -/
theorem xEnterX {l : Launch} {y : MethodName} {own : String} {cc : ByteArray} {nL fr lo mc ms : Nat} {ret : Option FieldType} {D : va_G} {dT : Nat → ClassId} {adK adV : Nat → Nat} {C : XH} {sz : Nat} {av : List Value} {Qc : (Nat → Prop) → Array Value → State → Outcome → State → Prop} {XC : (Nat → Prop) → String → Addr → State → State → Prop} (hy : plainName y.cls = true) (hc : y.cls = own) (hn : Nat.ble (lg_sl av).length nL = true)
    (k : ∀ (p : Program) (e : Env) (s : State) (m : MethodId) (args : Array Value) (below : List Frame) (meth : Method) (c : Code) (A : Nat → Prop) (ls : Array Slot), xX p s m args meth c own cc nL ret → meth.name = y.name → va_K D aCl (aT dT) s → (∀ q : Nat, s.heap.size ≤ q → A q) → xG adK adV A s s.heap → (∀ x ∈ c.exceptionTable.toList, False) → xI D dT A s.heap C s.heap [] → lv_has ls nL (lv_args 0 av) → W p l e (xRm fr lo mc ms) s m args below meth c s.heap [] 0 0 (vx_MQ below (Qc A) (XC A) args s mc ms A) (F0 m 0 ls [])) :
    vx_Met l y (ws_ y cc nL ret) (xRm fr lo mc ms) (xPre D dT adK adV C sz av) (Qc (xA C sz)) (XC (xA C sz)) mc ms (xA C sz) := by
  refine vx_ofW (cc := cc) (maxL := nL) (ret := ret) hy rfl ?_
  intro p e s m args below meth c s₁ B hml hx hv
  obtain ⟨rfl, hsz, hP, hK, hG⟩ := hv
  have hts := atoms_spec (ws := ws_ y cc nL ret) B.pre
  have hts : ∀ w ∈ lw_all, w.before _ s = true := fun w h => hts w (List.mem_cons_of_mem _ h)
  have hown : s.vm.findClass y.cls = some m.cls := findClass_of_methodNamed B.named
  rw [hc] at hown
  subst hsz
  have hl := lv_entry av (n := nL) (Nat.le_of_ble_eq_true hn)
  rw [lg_entry_eq]
  exact k p e s m _ below meth c _ _ ⟨B.exec, B.bytes, B.returns, hml, hts, hown, B.notSynchronized⟩ (name_of_methodNamed B.named B.method).1 hK (fun q h => Or.inr h) hG hx ⟨hP, fun a e h => Or.inl ⟨e, h⟩, va_S.rf⟩ hl
section XENDS
variable {p : Program} {l : Launch} {e : Env} {R : Room} {s : State} {m : MethodId} {args : Array Value} {below : List Frame} {meth : Method} {c : Code} {H : Heap} {locs : List Loc} {cells slots : Nat} {Q : State → Prop}
variable {own : String} {cc : ByteArray} {nL fr lo mc ms : Nat} {ret : Option FieldType} {pc : Nat} {ls : Array Slot} {rest st0 : List Value} {D : va_G} {dT : Nat → ClassId} {adK adV : Nat → Nat} {A : Nat → Prop} {C : XH} {a : Nat}
theorem x_reti {K : Int32 → XH → Prop} {v : Int32} (X : xX p s m args meth c own cc nL (some .int)) (hK : va_K D aCl (aT dT) s) (hI : xI D dT A s.heap C H locs) (hq : K v C) (hc : cells ≤ mc) (hs : slots ≤ ms) (hdg : decode cc pc = .ok (.ireturn, 1)) : W p l e R s m args below meth c H locs cells slots (MQ below (xQi D dT K A) args s mc ms A) (F0 m pc ls [.int v]) :=
  W.widen hc hs (W.iret X.1 X.2.1 X.2.2.1 (fun t ht hW => ⟨⟨v, C, rfl, hq, by rw [ht]; exact hI.1, va_K.moved hW.alike hK, hI.2.1⟩, hI.2.2.F ht⟩) hI.2.2.2.2 hdg X.2.2.2.2.2.2)
theorem x_retz {K : Int32 → XH → Prop} {v : Int32} (X : xX p s m args meth c own cc nL (some .boolean)) (hK : va_K D aCl (aT dT) s) (hI : xI D dT A s.heap C H locs) (hB : isB v) (hq : K v C) (hc : cells ≤ mc) (hs : slots ≤ ms) (hdg : decode cc pc = .ok (.ireturn, 1)) : W p l e R s m args below meth c H locs cells slots (MQ below (xQz D dT K A) args s mc ms A) (F0 m pc ls [.int v]) :=
  W.widen hc hs (W.zret X.1 X.2.1 X.2.2.1 hB (fun t ht hW => ⟨⟨v, C, rfl, ⟨hB, hq⟩, by rw [ht]; exact hI.1, va_K.moved hW.alike hK, hI.2.1⟩, hI.2.2.F ht⟩) hI.2.2.2.2 hdg X.2.2.2.2.2.2)
theorem x_retl {K : Int64 → XH → Prop} {v : Int64} (X : xX p s m args meth c own cc nL (some .long)) (hK : va_K D aCl (aT dT) s) (hI : xI D dT A s.heap C H locs) (hq : K v C) (hc : cells ≤ mc) (hs : slots ≤ ms) (hdg : decode cc pc = .ok (.lreturn, 1)) : W p l e R s m args below meth c H locs cells slots (MQ below (xQl D dT K A) args s mc ms A) (F0 m pc ls [.long v]) :=
  W.widen hc hs (W.lret X.1 X.2.1 X.2.2.1 (fun t ht hW => ⟨⟨v, C, rfl, hq, by rw [ht]; exact hI.1, va_K.moved hW.alike hK, hI.2.1⟩, hI.2.2.F ht⟩) hI.2.2.2.2 hdg X.2.2.2.2.2.2)
theorem x_retv {K : XH → Prop} (X : xX p s m args meth c own cc nL none) (hK : va_K D aCl (aT dT) s) (hI : xI D dT A s.heap C H locs) (hq : K C) (hc : cells ≤ mc) (hs : slots ≤ ms) (hdg : decode cc pc = .ok (.return_, 1)) : W p l e R s m args below meth c H locs cells slots (MQ below (xQv D dT K A) args s mc ms A) (F0 m pc ls []) :=
  W.widen hc hs (W.vret X.1 X.2.1 X.2.2.1 (fun t ht hW => ⟨⟨C, rfl, hq, by rw [ht]; exact hI.1, va_K.moved hW.alike hK, hI.2.1⟩, hI.2.2.F ht⟩) hI.2.2.2.2 hdg X.2.2.2.2.2.2)
theorem x_retr {K : Nat → XH → Prop} {q : Nat} {rn : String} (X : xX p s m args meth c own cc nL (some (.object rn))) (hK : va_K D aCl (aT dT) s) (hI : xI D dT A s.heap C H locs) (hq : K q C) (hc : cells ≤ mc) (hs : slots ≤ ms) (hdg : decode cc pc = .ok (.areturn, 1)) : W p l e R s m args below meth c H locs cells slots (MQ below (xQr D dT K A) args s mc ms A) (F0 m pc ls [.ref q]) :=
  W.widen hc hs (W.aret (v := .ref q) X.1 X.2.1 X.2.2.1 (Or.inl ⟨rn, rfl⟩) (Or.inr ⟨q, rfl⟩) (fun t ht hW => ⟨⟨some q, C, rfl, ⟨q, rfl, hq⟩, by rw [ht]; exact hI.1, va_K.moved hW.alike hK, hI.2.1⟩, hI.2.2.F ht⟩) hI.2.2.2.2 hdg X.2.2.2.2.2.2)
/-- what an exception does that this method doesn't catch: a method with no handlers -/
theorem x_out {EK : String → Addr → XH → Prop} {Qc : Array Value → State → Outcome → State → Prop} {E : String} {ce : Cell} {q : Nat} (X : xX p s m args meth c own cc nL ret) (hK : va_K D aCl (aT dT) s) (hx : ∀ x ∈ c.exceptionTable.toList, False) (hI : xI D dT A s.heap C H locs) (hq : EK E q C) (hcell : H[q]? = some ce) (hv : ce.vm = .none) (hcl : s.vm.findClass E = some ce.cls) (hc : cells ≤ mc) (hs : slots ≤ ms) :
    vx_W p l e R s m args below meth c H locs cells slots (vx_MQ below Qc (xXC D dT EK A) args s mc ms A) (F0 m pc ls rest) q :=
  vx_out (fun x hx' => (hx x hx').elim) X.2.2.2.2.2.2 hcell hv hcl (fun t ht hA => ⟨C, hq, ⟨by rw [ht]; exact hI.1, va_K.moved hA hK, hI.2.1⟩, hI.2.2.F ht⟩) hI.2.2.2.2 hc hs
/-- .. past the rows of its table -/
theorem x_outP {EK : String → Addr → XH → Prop} {Qc : Array Value → State → Outcome → State → Prop} {E : String} {ce : Cell} {q : Nat} (X : xX p s m args meth c own cc nL ret) (hK : va_K D aCl (aT dT) s) (hx : ∀ z ∈ c.exceptionTable.toList, covers z pc = false ∨ (z.catchType ≠ 0 ∧ ∃ nm : String, (Cond.classLink own z.catchType nm).before args s = true ∧ va_Nc E nm s)) (hI : xI D dT A s.heap C H locs) (hq : EK E q C) (hcell : H[q]? = some ce) (hv : ce.vm = .none) (hcl : s.vm.findClass E = some ce.cls) (hc : cells ≤ mc) (hs : slots ≤ ms) :
    vx_W p l e R s m args below meth c H locs cells slots (vx_MQ below Qc (xXC D dT EK A) args s mc ms A) (F0 m pc ls rest) q :=
  vx_outP X.2.2.2.2.2.1 X.2.2.2.2.2.2 hx hcell hv hcl (fun t ht hA => ⟨C, hq, ⟨by rw [ht]; exact hI.1, va_K.moved hA hK, hI.2.1⟩, hI.2.2.F ht⟩) hI.2.2.2.2 hc hs
theorem xBlind {D : va_G} {dT : Nat → ClassId} {adK adV : Nat → Nat} {C : XH} {sz : Nat} {av : List Value} : FrameBlind (xPre D dT adK adV C sz av) := by
  intro a U g mk q
  obtain ⟨q0, q1, qP, qK, qG⟩ := q
  have hW : U.WarmedH (U.calling g mk a).vm := State.WarmedH.refl U
  exact ⟨q0, q1, qP, va_K.moved (u := U) (U := U.calling g mk a) (Vm.Alike.refl U.vm) qK, xT.moved hW qG.1, xZ.moved hW qG.2⟩
theorem xPreS (hK : va_K D aCl (aT dT) s) (hA : ∀ q : Nat, s.heap.size ≤ q → A q) (hG : xG adK adV A s s.heap) (hI : xI D dT A s.heap C H locs) {av : List Value} : PreS s H (xPre D dT adK adV C H.size av) av :=
  ⟨xBlind, fun U hU hW => ⟨rfl, by rw [hU], by rw [hU]; exact hI.1, va_K.moved hW.alike hK, hG.call hA hI hU hW⟩⟩
theorem x_recv (hK : va_K D aCl (aT dT) s) (hI : xI D dT A s.heap C H locs) {b ci : Nat} {fs : List Value} {q : vw_C} (hb : C b = some (.inr (ci, fs))) (hc : aCl[ci]? = some q) : ∃ cell : Cell, H[b]? = some cell ∧ cell.vm.isStatics = false ∧ s.vm.findClass q.1 = some cell.cls :=
  va_recv hK (hI.1.one hb) (ci := ci) (q0 := 0) hc rfl
theorem xPreV (hK : va_K D aCl (aT dT) s) (hA : ∀ q : Nat, s.heap.size ≤ q → A q) (hG : xG adK adV A s s.heap) (hI : xI D dT A s.heap C H locs) {b ci : Nat} {fs As : List Value} {q : vw_C} (hb : C b = some (.inr (ci, fs))) (hc : aCl[ci]? = some q) : PreV s H q.1 b (xPre D dT adK adV C H.size (.ref b :: As)) As :=
  ⟨xBlind, x_recv hK hI hb hc, fun U hU hW => ⟨rfl, by rw [hU], by rw [hU]; exact hI.1, va_K.moved hW.alike hK, hG.call hA hI hU hW⟩⟩
theorem xcl_spec {C : XH} {a ci : Nat} (h : xcl C a = some ci) : ∃ fs, C a = some (.inr (ci, fs)) := by
  unfold xcl at h
  split at h
  next o ho => cases h; exact ⟨o.2, ho⟩
  next => cases h
theorem x_back {A' : Nat → Prop} {H1 : Heap} {locs1 : List Loc} {C' : XH} {t : State} (hA : ∀ q : Nat, s.heap.size ≤ q → A q) (hI : xI D dT A s.heap C H locs) (hB : xB D dT (xA C H.size) C' t) (ht : t.heap = H1) (hS : va_S A s.heap H1 locs1) : xI D dT A s.heap C' H1 locs1 :=
  ⟨by rw [← ht]; exact hB.1, fun a e h => xA_sub hA hI a (hB.2.2 a e h), hS⟩
/-- what a call of y through an object of class Cn asks; Cn is y's own class -/
def xInf (y : MethodName) (bytes : ByteArray) (maxL : Nat) (r : Option FieldType) (n : Nat) : Prop := Cond.code y bytes maxL r ∈ lw_all ∧ y.cls ≠ "java/lang/invoke/MethodHandle" ∧ y.cls ≠ "java/lang/invoke/VarHandle" ∧ (parseMethodDescriptor y.desc).map (fun d => d.parameters.length) = some n
def xInfW (y : MethodName) (bytes : ByteArray) (maxL : Nat) (r : Option FieldType) (hh : List (Nat × Nat × Nat × Nat)) (n : Nat) : Prop := Cond.codeWith y bytes maxL r hh ∈ lw_all ∧ y.cls ≠ "java/lang/invoke/MethodHandle" ∧ y.cls ≠ "java/lang/invoke/VarHandle" ∧ (parseMethodDescriptor y.desc).map (fun d => d.parameters.length) = some n
abbrev xCtx (p : Program) (l : Launch) (e : Env) (R : Room) (s : State) (m : MethodId) (args : Array Value) (below : List Frame) (meth : Method) (c : Code) (H : Heap) (locs : List Loc) (cells slots mc ms : Nat) (D : va_G) (dT : Nat → ClassId) (C : XH) (pc : Nat) (ls : Array Slot) (st0 rest : List Value) (Qc : va_G → (Nat → ClassId) → (Nat → Prop) → Array Value → State → Outcome → State → Prop) (av : List Value) : Prop :=
  va_Run p l e R s m args below meth c H locs cells slots mc ms (F0 m pc ls st0) rest (Qc D dT (xA C H.size) av.toArray) (xA C H.size)
abbrev xCtxX (p : Program) (l : Launch) (e : Env) (R : Room) (s : State) (m : MethodId) (args : Array Value) (below : List Frame) (meth : Method) (c : Code) (H : Heap) (locs : List Loc) (cells slots mc ms : Nat) (D : va_G) (dT : Nat → ClassId) (C : XH) (pc : Nat) (ls : Array Slot) (st0 rest : List Value) (Qc : va_G → (Nat → ClassId) → (Nat → Prop) → Array Value → State → Outcome → State → Prop) (EK : String → Addr → XH → Prop) (av : List Value) : Prop :=
  vx_Run p l e R s m args below meth c H locs cells slots mc ms (F0 m pc ls st0) rest (Qc D dT (xA C H.size) av.toArray) (xXC D dT EK (xA C H.size)) (xA C H.size)
variable {Qc : va_G → (Nat → ClassId) → (Nat → Prop) → Array Value → State → Outcome → State → Prop} {EK : String → Addr → XH → Prop} {y x : MethodName} {bytes : ByteArray} {maxL fr' lo' index n ci b : Nat} {r : Option FieldType} {As fs : List Value} {q : vw_C} {owner : String}
theorem x_runS (X : xX p s m args meth c own cc nL ret) (hK : va_K D aCl (aT dT) s) (hA : ∀ q : Nat, s.heap.size ≤ q → A q) (hG : xG adK adV A s s.heap) (hI : xI D dT A s.heap C H locs) (hC : xMet l y (ws_ y bytes maxL r) fr' lo' mc ms C As Qc) (hF : xInf y bytes maxL r n) (w1 : Cond.methodLink own index y ∈ lw_all) (w2 : Cond.static y ∈ lw_all) (w3 : Cond.initialized y.cls ∈ lw_all) (hR : fr' + 1 ≤ R.frames ∧ 8 + (maxL + 11) + lo' ≤ R.locals) (hlen : As.length = n) (hsz : ls.size = nL) (hst : st0 = As.reverse ++ rest) (hrm : (rest.map fun v => v.category).sum ≤ 8) (hdg : decode cc pc = .ok (.invokestatic index, 3)) (hf : cells + mc ≤ R.cells ∧ slots + ms ≤ R.slots) :
    xCtx p l e R s m args below meth c H locs cells slots mc ms D dT C pc ls st0 rest Qc As := by
  obtain ⟨h1, h2, h3, h4⟩ := hF
  exact va_runS (As := As) (rest := rest) (nL := nL) ⟨X.1, X.2.1, X.2.2.2.1, X.2.2.2.2.2.1, X.2.2.2.2.1⟩ (hC D dT adK adV H.size) (va_cwS n X.2.2.2.2.1 (lw_S w1 w2 w3 h1) rfl rfl rfl ⟨h2, h3, h4⟩ hR) (xPreS hK hA hG hI) rfl hlen hsz hst (lv_room hrm) hdg hf
theorem x_runV (X : xX p s m args meth c own cc nL ret) (hK : va_K D aCl (aT dT) s) (hA : ∀ q : Nat, s.heap.size ≤ q → A q) (hG : xG adK adV A s s.heap) (hI : xI D dT A s.heap C H locs) (hb : C b = some (.inr (ci, fs))) (hc : aCl[ci]? = some q) (hy : y.cls = q.1) (hC : xMet l y (ws_ y bytes maxL r) fr' lo' mc ms C (.ref b :: As) Qc) (hF : xInf y bytes maxL r n) (w1 : Cond.methodLink own index y ∈ lw_all) (w2 : Cond.instanceMethod y ∈ lw_all) (w3 : Cond.selects q.1 y y ∈ lw_all) (w4 : Cond.initialized q.1 ∈ lw_all) (hR : fr' + 1 ≤ R.frames ∧ 8 + (maxL + 11) + lo' ≤ R.locals) (hlen : As.length = n) (hsz : ls.size = nL) (hst : st0 = As.reverse ++ .ref b :: rest) (hrm : (rest.map fun v => v.category).sum ≤ 8) (hdg : decode cc pc = .ok (.invokevirtual index, 3)) (hf : cells + mc ≤ R.cells ∧ slots + ms ≤ R.slots) :
    xCtx p l e R s m args below meth c H locs cells slots mc ms D dT C pc ls st0 rest Qc (.ref b :: As) := by
  obtain ⟨h1, h2, h3, h4⟩ := hF
  exact va_runV (As := As) (rest := rest) (nL := nL) ⟨X.1, X.2.1, X.2.2.2.1, X.2.2.2.2.2.1, X.2.2.2.2.1⟩ (hC D dT adK adV H.size) (cwV n X.2.2.2.2.1 (lw_V w1 w2 w3 w4 h1) rfl rfl rfl ⟨hy, h2, h3, h4⟩ hR) (xPreV hK hA hG hI hb hc) rfl hlen hsz hst (lv_room hrm) hdg hf
theorem x_runI (X : xX p s m args meth c own cc nL ret) (hK : va_K D aCl (aT dT) s) (hA : ∀ q : Nat, s.heap.size ≤ q → A q) (hG : xG adK adV A s s.heap) (hI : xI D dT A s.heap C H locs) (hC : xMet l y (ws_ y bytes maxL none) fr' lo' mc ms C (.ref b :: As) Qc) (hF : xInf y bytes maxL none n) (hy1 : y.name = "<init>") (w1 : Cond.methodLink own index y ∈ lw_all) (w2 : Cond.instanceMethod y ∈ lw_all) (w4 : Cond.initialized y.cls ∈ lw_all) (hR : fr' + 1 ≤ R.frames ∧ 8 + (maxL + 11) + lo' ≤ R.locals) (hlen : As.length = n) (hsz : ls.size = nL) (hst : st0 = As.reverse ++ .ref b :: rest) (hrm : (rest.map fun v => v.category).sum ≤ 8) (hdg : decode cc pc = .ok (.invokespecial index, 3)) (hf : cells + mc ≤ R.cells ∧ slots + ms ≤ R.slots) :
    xCtx p l e R s m args below meth c H locs cells slots mc ms D dT C pc ls st0 rest Qc (.ref b :: As) := by
  obtain ⟨h1, h2, h3, h4⟩ := hF
  exact va_runI (As := As) (rest := rest) (nL := nL) ⟨X.1, X.2.1, X.2.2.2.1, X.2.2.2.2.2.1, X.2.2.2.2.1⟩ (hC D dT adK adV H.size) (cwI n X.2.2.2.2.1 (lw_meth h1) rfl rfl rfl (X.2.2.2.2.1 _ w4) (X.2.2.2.2.1 _ w1) (X.2.2.2.2.1 _ w2) hy1 ⟨h2, h3, h4⟩ hR) (xPreS hK hA hG hI) rfl hlen hsz hst (lv_room hrm) hdg hf
/-- super.m(..) -/
theorem x_runSU (X : xX p s m args meth c own cc nL ret) (hK : va_K D aCl (aT dT) s) (hA : ∀ q : Nat, s.heap.size ≤ q → A q) (hG : xG adK adV A s s.heap) (hI : xI D dT A s.heap C H locs) (hb : C b = some (.inr (ci, fs))) (hc : aCl[ci]? = some q) (hC : xMet l y (ws_ y bytes maxL r) fr' lo' mc ms C (.ref b :: As) Qc) (hF : xInf y bytes maxL r n) (hno : y.name ≠ "<init>") (w1 : Cond.methodLink own index y ∈ lw_all) (w2 : Cond.sameMethod y.cls y.cls y.name y.desc ∈ lw_all) (w3 : Cond.superclass own y.cls ∈ lw_all) (w4 : Cond.instanceMethod y ∈ lw_all) (w5 : Cond.initialized y.cls ∈ lw_all) (hR : fr' + 1 ≤ R.frames ∧ 8 + (maxL + 11) + lo' ≤ R.locals) (hlen : As.length = n) (hsz : ls.size = nL) (hst : st0 = As.reverse ++ .ref b :: rest) (hrm : (rest.map fun v => v.category).sum ≤ 8) (hdg : decode cc pc = .ok (.invokespecial index, 3)) (hf : cells + mc ≤ R.cells ∧ slots + ms ≤ R.slots) :
    xCtx p l e R s m args below meth c H locs cells slots mc ms D dT C pc ls st0 rest Qc (.ref b :: As) := by
  obtain ⟨h1, h2, h3, h4⟩ := hF
  have hG' : GoodIn lw_all (va_wsSU own index y (ws_ y bytes maxL r)) := by
    refine lw_app ?_ (lw_meth h1)
    intro w hw
    simp only [List.mem_cons, List.not_mem_nil, or_false] at hw
    rcases hw with e | e | e | e | e <;> rw [e] <;> assumption
  exact va_runSU (C := q.1) (cC := D.1 ci) (As := As) (rest := rest) (nL := nL) (hK.1 ci q hc).2 ⟨X.1, X.2.1, X.2.2.2.1, X.2.2.2.2.2.1, X.2.2.2.2.1⟩ (hC D dT adK adV H.size) (va_cwSU n X.2.2.2.2.1 hG' rfl rfl rfl ⟨hno, h4⟩ hR) (xPreV hK hA hG hI hb hc) rfl hlen hsz hst (lv_room hrm) hdg hf
/-- a method found by the receiver's class: the reference names x, y is run; what it names has code of its own -/
theorem x_runO (X : xX p s m args meth c own cc nL ret) (hK : va_K D aCl (aT dT) s) (hA : ∀ q : Nat, s.heap.size ≤ q → A q) (hG : xG adK adV A s s.heap) (hI : xI D dT A s.heap C H locs) (hb : C b = some (.inr (ci, fs))) (hc : aCl[ci]? = some q) (hC : xMet l y (ws_ y bytes maxL r) fr' lo' mc ms C (.ref b :: As) Qc) (hF : xInf y bytes maxL r n) (owner : String) (w1 : Cond.methodLink own index x ∈ lw_all) (w2 : Cond.sameMethod x.cls owner x.name x.desc ∈ lw_all) (w3 : Cond.instanceMethod ⟨owner, x.name, x.desc⟩ ∈ lw_all) (w4 : Cond.selects q.1 x y ∈ lw_all) (w5 : Cond.instanceMethod y ∈ lw_all) (w6 : Cond.initialized y.cls ∈ lw_all) {b0 : ByteArray} {m0 : Nat} {r0 : Option FieldType} (h0 : Cond.code ⟨owner, x.name, x.desc⟩ b0 m0 r0 ∈ lw_all) (hd : owner ≠ "java/lang/invoke/MethodHandle" ∧ owner ≠ "java/lang/invoke/VarHandle" ∧ (parseMethodDescriptor x.desc).map (fun d => d.parameters.length) = some n) (hR : fr' + 1 ≤ R.frames ∧ 8 + (maxL + 11) + lo' ≤ R.locals) (hlen : As.length = n) (hsz : ls.size = nL) (hst : st0 = As.reverse ++ .ref b :: rest) (hrm : (rest.map fun v => v.category).sum ≤ 8) (hdg : decode cc pc = .ok (.invokevirtual index, 3)) (hf : cells + mc ≤ R.cells ∧ slots + ms ≤ R.slots) :
    xCtx p l e R s m args below meth c H locs cells slots mc ms D dT C pc ls st0 rest Qc (.ref b :: As) := by
  obtain ⟨h1, h2, h3, h4⟩ := hF
  have hG' : GoodIn lw_all (va_wsO own index q.1 owner x y (ws_ y bytes maxL r)) := by
    refine lw_app ?_ (lw_meth h1)
    intro w hw
    simp only [List.mem_cons, List.not_mem_nil, or_false] at hw
    rcases hw with e | e | e | e | e | e <;> rw [e] <;> assumption
  exact va_runU (owner := owner) (As := As) (rest := rest) (nL := nL) ⟨X.1, X.2.1, X.2.2.2.1, X.2.2.2.2.2.1, X.2.2.2.2.1⟩ (hC D dT adK adV H.size) (va_cwO n X.2.2.2.2.1 hG' rfl rfl rfl h0 hd hR) (xPreV hK hA hG hI hb hc) rfl hlen hsz hst (lv_room hrm) hdg hf
/-- .. what it names is abstract -/
theorem x_runA (X : xX p s m args meth c own cc nL ret) (hK : va_K D aCl (aT dT) s) (hA : ∀ q : Nat, s.heap.size ≤ q → A q) (hG : xG adK adV A s s.heap) (hI : xI D dT A s.heap C H locs) (hb : C b = some (.inr (ci, fs))) (hc : aCl[ci]? = some q) (hC : xMet l y (ws_ y bytes maxL r) fr' lo' mc ms C (.ref b :: As) Qc) (hF : xInf y bytes maxL r n) (owner : String) (w1 : Cond.methodLink own index x ∈ lw_all) (w2 : Cond.sameMethod x.cls owner x.name x.desc ∈ lw_all) (w3 : (⟨owner, x.name, x.desc⟩ : MethodName) ∈ xNwD) (w4 : Cond.selects q.1 x y ∈ lw_all) (w5 : Cond.instanceMethod y ∈ lw_all) (w6 : Cond.initialized y.cls ∈ lw_all) (hd : owner ≠ "java/lang/invoke/MethodHandle" ∧ owner ≠ "java/lang/invoke/VarHandle" ∧ (parseMethodDescriptor x.desc).map (fun d => d.parameters.length) = some n) (hR : fr' + 1 ≤ R.frames ∧ 8 + (maxL + 11) + lo' ≤ R.locals) (hlen : As.length = n) (hsz : ls.size = nL) (hst : st0 = As.reverse ++ .ref b :: rest) (hrm : (rest.map fun v => v.category).sum ≤ 8) (hdg : decode cc pc = .ok (.invokevirtual index, 3)) (hf : cells + mc ≤ R.cells ∧ slots + ms ≤ R.slots) :
    xCtx p l e R s m args below meth c H locs cells slots mc ms D dT C pc ls st0 rest Qc (.ref b :: As) := by
  obtain ⟨h1, h2, h3, h4⟩ := hF
  have hG' : GoodIn lw_all (va_wsU own index q.1 owner x y (ws_ y bytes maxL r)) := by
    refine lw_app ?_ (lw_meth h1)
    intro w hw
    simp only [List.mem_cons, List.not_mem_nil, or_false] at hw
    rcases hw with e | e | e | e | e <;> rw [e] <;> assumption
  exact va_runU (owner := owner) (As := As) (rest := rest) (nL := nL) ⟨X.1, X.2.1, X.2.2.2.1, X.2.2.2.2.2.1, X.2.2.2.2.1⟩ (hC D dT adK adV H.size) (va_cwA n X.2.2.2.2.1 hG' rfl rfl rfl (hG.1.1 _ w3) hd hR) (xPreV hK hA hG hI hb hc) rfl hlen hsz hst (lv_room hrm) hdg hf
theorem x_goi {K : Int32 → XH → Prop} {av : List Value} (hA : ∀ q : Nat, s.heap.size ≤ q → A q) (hI : xI D dT A s.heap C H locs) (h : xCtx p l e R s m args below meth c H locs cells slots mc ms D dT C pc ls st0 rest (fun D dT A => xQi D dT K A) av)
    (kk : ∀ (r : Int32) (C' : XH) (H1 : Heap) (locs1 : List Loc), K r C' → xI D dT A s.heap C' H1 locs1 → W p l e R s m args below meth c H1 locs1 (cells + mc) (slots + ms) Q (F0 m (pc + 3) ls (.int r :: rest))) : W p l e R s m args below meth c H locs cells slots Q (F0 m pc ls st0) :=
  va_calli h hI.2.2 (fun q _ hq => xA_sub hA hI q hq) (xA_sub hA hI) (fun r C' t H1 locs1 ht _ hp hB _ _ hS => kk r C' H1 locs1 hp (x_back (A' := A) hA hI hB ht hS))
theorem x_goz {K : Int32 → XH → Prop} {av : List Value} (hA : ∀ q : Nat, s.heap.size ≤ q → A q) (hI : xI D dT A s.heap C H locs) (h : xCtx p l e R s m args below meth c H locs cells slots mc ms D dT C pc ls st0 rest (fun D dT A => xQz D dT K A) av)
    (kk : ∀ (r : Int32) (C' : XH) (H1 : Heap) (locs1 : List Loc), isB r → K r C' → xI D dT A s.heap C' H1 locs1 → W p l e R s m args below meth c H1 locs1 (cells + mc) (slots + ms) Q (F0 m (pc + 3) ls (.int r :: rest))) : W p l e R s m args below meth c H locs cells slots Q (F0 m pc ls st0) :=
  va_calli h hI.2.2 (fun q _ hq => xA_sub hA hI q hq) (xA_sub hA hI) (fun r C' t H1 locs1 ht _ hp hB _ _ hS => kk r C' H1 locs1 hp.1 hp.2 (x_back (A' := A) hA hI hB ht hS))
theorem x_gol {K : Int64 → XH → Prop} {av : List Value} (hA : ∀ q : Nat, s.heap.size ≤ q → A q) (hI : xI D dT A s.heap C H locs) (h : xCtx p l e R s m args below meth c H locs cells slots mc ms D dT C pc ls st0 rest (fun D dT A => xQl D dT K A) av)
    (kk : ∀ (r : Int64) (C' : XH) (H1 : Heap) (locs1 : List Loc), K r C' → xI D dT A s.heap C' H1 locs1 → W p l e R s m args below meth c H1 locs1 (cells + mc) (slots + ms) Q (F0 m (pc + 3) ls (.long r :: rest))) : W p l e R s m args below meth c H locs cells slots Q (F0 m pc ls st0) :=
  va_calll h hI.2.2 (fun q _ hq => xA_sub hA hI q hq) (xA_sub hA hI) (fun r C' t H1 locs1 ht _ hp hB _ _ hS => kk r C' H1 locs1 hp (x_back (A' := A) hA hI hB ht hS))
theorem x_gov {K : XH → Prop} {av : List Value} (hA : ∀ q : Nat, s.heap.size ≤ q → A q) (hI : xI D dT A s.heap C H locs) (h : xCtx p l e R s m args below meth c H locs cells slots mc ms D dT C pc ls st0 rest (fun D dT A => xQv D dT K A) av)
    (kk : ∀ (C' : XH) (H1 : Heap) (locs1 : List Loc), K C' → xI D dT A s.heap C' H1 locs1 → W p l e R s m args below meth c H1 locs1 (cells + mc) (slots + ms) Q (F0 m (pc + 3) ls rest)) : W p l e R s m args below meth c H locs cells slots Q (F0 m pc ls st0) :=
  va_callv h hI.2.2 (fun q _ hq => xA_sub hA hI q hq) (xA_sub hA hI) (fun C' t H1 locs1 ht _ hp hB _ _ hS => kk C' H1 locs1 hp (x_back (A' := A) hA hI hB ht hS))
theorem x_gor {K : Nat → XH → Prop} {av : List Value} (hA : ∀ q : Nat, s.heap.size ≤ q → A q) (hI : xI D dT A s.heap C H locs) (h : xCtx p l e R s m args below meth c H locs cells slots mc ms D dT C pc ls st0 rest (fun D dT A => xQr D dT K A) av)
    (kk : ∀ (r : Nat) (C' : XH) (H1 : Heap) (locs1 : List Loc), K r C' → xI D dT A s.heap C' H1 locs1 → W p l e R s m args below meth c H1 locs1 (cells + mc) (slots + ms) Q (F0 m (pc + 3) ls (.ref r :: rest))) : W p l e R s m args below meth c H locs cells slots Q (F0 m pc ls st0) :=
  va_callq h hI.2.2 (fun q _ hq => xA_sub hA hI q hq) (xA_sub hA hI) (fun r C' t H1 locs1 ht _ hp hB _ _ hS => by
    obtain ⟨q, rfl, hp⟩ := hp
    exact kk q C' H1 locs1 hp (x_back (A' := A) hA hI hB ht hS))
end XENDS
