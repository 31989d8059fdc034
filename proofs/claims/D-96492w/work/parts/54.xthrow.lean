/-! throwing calls, tables of handlers -/
set_option maxRecDepth 100000
theorem xEnterT {l : Launch} {y : MethodName} {own : String} {cc : ByteArray} {nL fr lo mc ms : Nat} {ret : Option FieldType} {D : va_G} {dT : Nat → ClassId} {adK adV : Nat → Nat} {C : XH} {sz : Nat} {av : List Value} {Qc : (Nat → Prop) → Array Value → State → Outcome → State → Prop} {XC : (Nat → Prop) → String → Addr → State → State → Prop} (hy : plainName y.cls = true) (hc : y.cls = own) (hn : Nat.ble (lg_sl av).length nL = true)
    (k : ∀ (p : Program) (e : Env) (s : State) (m : MethodId) (args : Array Value) (below : List Frame) (meth : Method) (c : Code) (A : Nat → Prop) (ls : Array Slot), xX p s m args meth c own cc nL ret → meth.name = y.name → va_K D aCl (aT dT) s → (∀ q : Nat, s.heap.size ≤ q → A q) → xG adK adV A s s.heap → c.exceptionTable.toList = tableOf [] → xI D dT A s.heap C s.heap [] → lv_has ls nL (lv_args 0 av) → W p l e (xRm fr lo mc ms) s m args below meth c s.heap [] 0 0 (vx_MQ below (Qc A) (XC A) args s mc ms A) (F0 m 0 ls [])) :
    vx_Met l y (ws_ y cc nL ret) (xRm fr lo mc ms) (xPre D dT adK adV C sz av) (Qc (xA C sz)) (XC (xA C sz)) mc ms (xA C sz) := by
  refine vx_ofW (cc := cc) (maxL := nL) (ret := ret) hy rfl ?_
  intro p e s m args below meth c s₁ B hml hx0 hv
  obtain ⟨rfl, hsz, hP, hK, hG⟩ := hv
  have hts := atoms_spec (ws := ws_ y cc nL ret) B.pre
  have hx : c.exceptionTable.toList = tableOf [] := List.eq_nil_iff_forall_not_mem.mpr hx0
  have hts : ∀ w ∈ lw_all, w.before _ s = true := fun w h => hts w (List.mem_cons_of_mem _ h)
  have hown : s.vm.findClass y.cls = some m.cls := findClass_of_methodNamed B.named
  rw [hc] at hown
  subst hsz
  have hl := lv_entry av (n := nL) (Nat.le_of_ble_eq_true hn)
  rw [lg_entry_eq]
  exact k p e s m _ below meth c _ _ ⟨B.exec, B.bytes, B.returns, hml, hts, hown, B.notSynchronized⟩ (name_of_methodNamed B.named B.method).1 hK (fun q h => Or.inr h) hG hx ⟨hP, fun a e h => Or.inl ⟨e, h⟩, va_S.rf⟩ hl
theorem xEnterW {l : Launch} {y : MethodName} {own : String} {cc : ByteArray} {nL fr lo mc ms : Nat} {ret : Option FieldType} {hh : List (Nat × Nat × Nat × Nat)} {D : va_G} {dT : Nat → ClassId} {adK adV : Nat → Nat} {C : XH} {sz : Nat} {av : List Value} {Qc : (Nat → Prop) → Array Value → State → Outcome → State → Prop} {XC : (Nat → Prop) → String → Addr → State → State → Prop} (hy : plainName y.cls = true) (hc : y.cls = own) (hn : Nat.ble (lg_sl av).length nL = true)
    (k : ∀ (p : Program) (e : Env) (s : State) (m : MethodId) (args : Array Value) (below : List Frame) (meth : Method) (c : Code) (A : Nat → Prop) (ls : Array Slot), xX p s m args meth c own cc nL ret → meth.name = y.name → va_K D aCl (aT dT) s → (∀ q : Nat, s.heap.size ≤ q → A q) → xG adK adV A s s.heap → c.exceptionTable.toList = tableOf hh → xI D dT A s.heap C s.heap [] → lv_has ls nL (lv_args 0 av) → W p l e (xRm fr lo mc ms) s m args below meth c s.heap [] 0 0 (vx_MQ below (Qc A) (XC A) args s mc ms A) (F0 m 0 ls [])) :
    vx_Met l y (wsW_ y cc nL ret hh) (xRm fr lo mc ms) (xPre D dT adK adV C sz av) (Qc (xA C sz)) (XC (xA C sz)) mc ms (xA C sz) := by
  refine vx_ofWH (cc := cc) (maxL := nL) (ret := ret) (hh := hh) hy rfl ?_
  intro p e s m args below meth c s₁ B hml hv
  obtain ⟨rfl, hsz, hP, hK, hG⟩ := hv
  have hts := atoms_spec (ws := wsW_ y cc nL ret hh) B.pre
  have hx : c.exceptionTable.toList = tableOf hh := vx_table (x := y) B (hts _ List.mem_cons_self)
  have hts : ∀ w ∈ lw_all, w.before _ s = true := fun w h => hts w (List.mem_cons_of_mem _ h)
  have hown : s.vm.findClass y.cls = some m.cls := findClass_of_methodNamed B.named
  rw [hc] at hown
  subst hsz
  have hl := lv_entry av (n := nL) (Nat.le_of_ble_eq_true hn)
  rw [lg_entry_eq]
  exact k p e s m _ below meth c _ _ ⟨B.exec, B.bytes, B.returns, hml, hts, hown, B.notSynchronized⟩ (name_of_methodNamed B.named B.method).1 hK (fun q h => Or.inr h) hG hx ⟨hP, fun a e h => Or.inl ⟨e, h⟩, va_S.rf⟩ hl
section XTHROW
variable {p : Program} {l : Launch} {e : Env} {R : Room} {s : State} {m : MethodId} {args : Array Value} {below : List Frame} {meth : Method} {c : Code} {H : Heap} {locs : List Loc} {cells slots : Nat} {Q : State → Prop}
variable {own : String} {cc : ByteArray} {nL fr lo mc ms : Nat} {ret : Option FieldType} {pc : Nat} {ls : Array Slot} {rest st0 : List Value} {D : va_G} {dT : Nat → ClassId} {adK adV : Nat → Nat} {A : Nat → Prop} {C : XH} {a : Nat}
variable {Qc : va_G → (Nat → ClassId) → (Nat → Prop) → Array Value → State → Outcome → State → Prop} {EK : String → Addr → XH → Prop} {y x : MethodName} {bytes : ByteArray} {maxL fr' lo' index n ci b : Nat} {r : Option FieldType} {As fs : List Value} {q : vw_C} {owner : String}
theorem x_runST (X : xX p s m args meth c own cc nL ret) (hK : va_K D aCl (aT dT) s) (hA : ∀ q : Nat, s.heap.size ≤ q → A q) (hG : xG adK adV A s s.heap) (hI : xI D dT A s.heap C H locs) (hC : xMetX l y (ws_ y bytes maxL r) fr' lo' mc ms C As Qc EK) (hF : xInf y bytes maxL r n) (w1 : Cond.methodLink own index y ∈ lw_all) (w2 : Cond.static y ∈ lw_all) (w3 : Cond.initialized y.cls ∈ lw_all) (hR : fr' + 1 ≤ R.frames ∧ 8 + (maxL + 11) + lo' ≤ R.locals) (hlen : As.length = n) (hsz : ls.size = nL) (hst : st0 = As.reverse ++ rest) (hrm : (rest.map fun v => v.category).sum ≤ 8) (hdg : decode cc pc = .ok (.invokestatic index, 3)) (hf : cells + mc ≤ R.cells ∧ slots + ms ≤ R.slots) :
    xCtxX p l e R s m args below meth c H locs cells slots mc ms D dT C pc ls st0 rest Qc EK As := by
  obtain ⟨h1, h2, h3, h4⟩ := hF
  exact vx_runS (As := As) (rest := rest) (nL := nL) ⟨X.1, X.2.1, X.2.2.2.1, X.2.2.2.2.2.1, X.2.2.2.2.1⟩ (hC D dT adK adV H.size) (va_cwS n X.2.2.2.2.1 (lw_S w1 w2 w3 h1) rfl rfl rfl ⟨h2, h3, h4⟩ hR) (xPreS hK hA hG hI) rfl hlen hsz hst (lv_room hrm) hdg hf
theorem x_runVT (X : xX p s m args meth c own cc nL ret) (hK : va_K D aCl (aT dT) s) (hA : ∀ q : Nat, s.heap.size ≤ q → A q) (hG : xG adK adV A s s.heap) (hI : xI D dT A s.heap C H locs) (hb : C b = some (.inr (ci, fs))) (hc : aCl[ci]? = some q) (hy : y.cls = q.1) (hC : xMetX l y (ws_ y bytes maxL r) fr' lo' mc ms C (.ref b :: As) Qc EK) (hF : xInf y bytes maxL r n) (w1 : Cond.methodLink own index y ∈ lw_all) (w2 : Cond.instanceMethod y ∈ lw_all) (w3 : Cond.selects q.1 y y ∈ lw_all) (w4 : Cond.initialized q.1 ∈ lw_all) (hR : fr' + 1 ≤ R.frames ∧ 8 + (maxL + 11) + lo' ≤ R.locals) (hlen : As.length = n) (hsz : ls.size = nL) (hst : st0 = As.reverse ++ .ref b :: rest) (hrm : (rest.map fun v => v.category).sum ≤ 8) (hdg : decode cc pc = .ok (.invokevirtual index, 3)) (hf : cells + mc ≤ R.cells ∧ slots + ms ≤ R.slots) :
    xCtxX p l e R s m args below meth c H locs cells slots mc ms D dT C pc ls st0 rest Qc EK (.ref b :: As) := by
  obtain ⟨h1, h2, h3, h4⟩ := hF
  exact vx_runV (As := As) (rest := rest) (nL := nL) ⟨X.1, X.2.1, X.2.2.2.1, X.2.2.2.2.2.1, X.2.2.2.2.1⟩ (hC D dT adK adV H.size) (cwV n X.2.2.2.2.1 (lw_V w1 w2 w3 w4 h1) rfl rfl rfl ⟨hy, h2, h3, h4⟩ hR) (xPreV hK hA hG hI hb hc) rfl hlen hsz hst (lv_room hrm) hdg hf
theorem x_runAT (X : xX p s m args meth c own cc nL ret) (hK : va_K D aCl (aT dT) s) (hA : ∀ q : Nat, s.heap.size ≤ q → A q) (hG : xG adK adV A s s.heap) (hI : xI D dT A s.heap C H locs) (hb : C b = some (.inr (ci, fs))) (hc : aCl[ci]? = some q) (hC : xMetX l y (ws_ y bytes maxL r) fr' lo' mc ms C (.ref b :: As) Qc EK) (hF : xInf y bytes maxL r n) (owner : String) (w1 : Cond.methodLink own index x ∈ lw_all) (w2 : Cond.sameMethod x.cls owner x.name x.desc ∈ lw_all) (w3 : (⟨owner, x.name, x.desc⟩ : MethodName) ∈ xNwD) (w4 : Cond.selects q.1 x y ∈ lw_all) (w5 : Cond.instanceMethod y ∈ lw_all) (w6 : Cond.initialized y.cls ∈ lw_all) (hd : owner ≠ "java/lang/invoke/MethodHandle" ∧ owner ≠ "java/lang/invoke/VarHandle" ∧ (parseMethodDescriptor x.desc).map (fun d => d.parameters.length) = some n) (hR : fr' + 1 ≤ R.frames ∧ 8 + (maxL + 11) + lo' ≤ R.locals) (hlen : As.length = n) (hsz : ls.size = nL) (hst : st0 = As.reverse ++ .ref b :: rest) (hrm : (rest.map fun v => v.category).sum ≤ 8) (hdg : decode cc pc = .ok (.invokevirtual index, 3)) (hf : cells + mc ≤ R.cells ∧ slots + ms ≤ R.slots) :
    xCtxX p l e R s m args below meth c H locs cells slots mc ms D dT C pc ls st0 rest Qc EK (.ref b :: As) := by
  obtain ⟨h1, h2, h3, h4⟩ := hF
  have hG' : GoodIn lw_all (va_wsU own index q.1 owner x y (ws_ y bytes maxL r)) := by
    refine lw_app ?_ (lw_meth h1)
    intro w hw
    simp only [List.mem_cons, List.not_mem_nil, or_false] at hw
    rcases hw with e | e | e | e | e <;> rw [e] <;> assumption
  exact vx_runU (owner := owner) (As := As) (rest := rest) (nL := nL) ⟨X.1, X.2.1, X.2.2.2.1, X.2.2.2.2.2.1, X.2.2.2.2.1⟩ (hC D dT adK adV H.size) (va_cwA n X.2.2.2.2.1 hG' rfl rfl rfl (hG.1.1 _ w3) hd hR) (xPreV hK hA hG hI hb hc) rfl hlen hsz hst (lv_room hrm) hdg hf
theorem x_runIT (X : xX p s m args meth c own cc nL ret) (hK : va_K D aCl (aT dT) s) (hA : ∀ q : Nat, s.heap.size ≤ q → A q) (hG : xG adK adV A s s.heap) (hI : xI D dT A s.heap C H locs) (hC : xMetX l y (ws_ y bytes maxL none) fr' lo' mc ms C (.ref b :: As) Qc EK) (hF : xInf y bytes maxL none n) (hy1 : y.name = "<init>") (w1 : Cond.methodLink own index y ∈ lw_all) (w2 : Cond.instanceMethod y ∈ lw_all) (w4 : Cond.initialized y.cls ∈ lw_all) (hR : fr' + 1 ≤ R.frames ∧ 8 + (maxL + 11) + lo' ≤ R.locals) (hlen : As.length = n) (hsz : ls.size = nL) (hst : st0 = As.reverse ++ .ref b :: rest) (hrm : (rest.map fun v => v.category).sum ≤ 8) (hdg : decode cc pc = .ok (.invokespecial index, 3)) (hf : cells + mc ≤ R.cells ∧ slots + ms ≤ R.slots) :
    xCtxX p l e R s m args below meth c H locs cells slots mc ms D dT C pc ls st0 rest Qc EK (.ref b :: As) := by
  obtain ⟨h1, h2, h3, h4⟩ := hF
  exact vx_runI (As := As) (rest := rest) (nL := nL) ⟨X.1, X.2.1, X.2.2.2.1, X.2.2.2.2.2.1, X.2.2.2.2.1⟩ (hC D dT adK adV H.size) (cwI n X.2.2.2.2.1 (lw_meth h1) rfl rfl rfl (X.2.2.2.2.1 _ w4) (X.2.2.2.2.1 _ w1) (X.2.2.2.2.1 _ w2) hy1 ⟨h2, h3, h4⟩ hR) (xPreS hK hA hG hI) rfl hlen hsz hst (lv_room hrm) hdg hf
theorem x_runVTW {hh : List (Nat × Nat × Nat × Nat)} (X : xX p s m args meth c own cc nL ret) (hK : va_K D aCl (aT dT) s) (hA : ∀ q : Nat, s.heap.size ≤ q → A q) (hG : xG adK adV A s s.heap) (hI : xI D dT A s.heap C H locs) (hb : C b = some (.inr (ci, fs))) (hc : aCl[ci]? = some q) (hy : y.cls = q.1) (hC : xMetX l y (wsW_ y bytes maxL r hh) fr' lo' mc ms C (.ref b :: As) Qc EK) (hF : xInfW y bytes maxL r hh n) (w1 : Cond.methodLink own index y ∈ lw_all) (w2 : Cond.instanceMethod y ∈ lw_all) (w3 : Cond.selects q.1 y y ∈ lw_all) (w4 : Cond.initialized q.1 ∈ lw_all) (hR : fr' + 1 ≤ R.frames ∧ 8 + (maxL + 11) + lo' ≤ R.locals) (hlen : As.length = n) (hsz : ls.size = nL) (hst : st0 = As.reverse ++ .ref b :: rest) (hrm : (rest.map fun v => v.category).sum ≤ 8) (hdg : decode cc pc = .ok (.invokevirtual index, 3)) (hf : cells + mc ≤ R.cells ∧ slots + ms ≤ R.slots) :
    xCtxX p l e R s m args below meth c H locs cells slots mc ms D dT C pc ls st0 rest Qc EK (.ref b :: As) := by
  obtain ⟨h1, h2, h3, h4⟩ := hF
  exact vx_runVX (As := As) (rest := rest) (nL := nL) ⟨X.1, X.2.1, X.2.2.2.1, X.2.2.2.2.2.1, X.2.2.2.2.1⟩ (hC D dT adK adV H.size) (vx_cwVW n X.2.2.2.2.1 (lw_VW w1 w2 w3 w4 h1) rfl rfl rfl ⟨hy, h2, h3, h4⟩ hR) (xPreV hK hA hG hI hb hc) rfl hlen hsz hst (lv_room hrm) hdg hf
theorem x_runSTW {hh : List (Nat × Nat × Nat × Nat)} (X : xX p s m args meth c own cc nL ret) (hK : va_K D aCl (aT dT) s) (hA : ∀ q : Nat, s.heap.size ≤ q → A q) (hG : xG adK adV A s s.heap) (hI : xI D dT A s.heap C H locs) (hC : xMetX l y (wsW_ y bytes maxL r hh) fr' lo' mc ms C As Qc EK) (hF : xInfW y bytes maxL r hh n) (w1 : Cond.methodLink own index y ∈ lw_all) (w2 : Cond.static y ∈ lw_all) (w3 : Cond.initialized y.cls ∈ lw_all) (hR : fr' + 1 ≤ R.frames ∧ 8 + (maxL + 11) + lo' ≤ R.locals) (hlen : As.length = n) (hsz : ls.size = nL) (hst : st0 = As.reverse ++ rest) (hrm : (rest.map fun v => v.category).sum ≤ 8) (hdg : decode cc pc = .ok (.invokestatic index, 3)) (hf : cells + mc ≤ R.cells ∧ slots + ms ≤ R.slots) :
    xCtxX p l e R s m args below meth c H locs cells slots mc ms D dT C pc ls st0 rest Qc EK As := by
  obtain ⟨h1, h2, h3, h4⟩ := hF
  exact vx_runSX (As := As) (rest := rest) (nL := nL) ⟨X.1, X.2.1, X.2.2.2.1, X.2.2.2.2.2.1, X.2.2.2.2.1⟩ (hC D dT adK adV H.size) (vx_cwSW n X.2.2.2.2.1 (lw_SW w1 w2 w3 h1) rfl rfl rfl ⟨h2, h3, h4⟩ hR) (xPreS hK hA hG hI) rfl hlen hsz hst (lv_room hrm) hdg hf
theorem xT_goi {K : Int32 → XH → Prop} {av : List Value} (hA : ∀ q : Nat, s.heap.size ≤ q → A q) (hI : xI D dT A s.heap C H locs) (h : xCtxX p l e R s m args below meth c H locs cells slots mc ms D dT C pc ls st0 rest (fun D dT A => xQi D dT K A) EK av)
    (kx : ∀ (E : String) (ce : Cell) (q : Nat) (C' : XH) (H1 : Heap) (locs1 : List Loc), EK E q C' → xI D dT A s.heap C' H1 locs1 → H1[q]? = some ce → ce.vm = .none → s.vm.findClass E = some ce.cls → vx_W p l e R s m args below meth c H1 locs1 (cells + mc) (slots + ms) Q (F0 m pc ls rest) q)
    (kk : ∀ (r : Int32) (C' : XH) (H1 : Heap) (locs1 : List Loc), K r C' → xI D dT A s.heap C' H1 locs1 → W p l e R s m args below meth c H1 locs1 (cells + mc) (slots + ms) Q (F0 m (pc + 3) ls (.int r :: rest))) : W p l e R s m args below meth c H locs cells slots Q (F0 m pc ls st0) :=
  vx_calli h hI.2.2 (fun q _ hq => xA_sub hA hI q hq) (xA_sub hA hI) (fun q _ hq => xA_sub hA hI q hq) (fun E ce q9 C' t H1 locs1 ht _ hp hB _ _ hS c1 c2 c3 => kx E ce q9 C' H1 locs1 hp (x_back (A' := A) hA hI hB ht hS) c1 c2 c3) (fun r C' t H1 locs1 ht _ hp hB _ _ hS => kk r C' H1 locs1 hp (x_back (A' := A) hA hI hB ht hS))
theorem xT_gol {K : Int64 → XH → Prop} {av : List Value} (hA : ∀ q : Nat, s.heap.size ≤ q → A q) (hI : xI D dT A s.heap C H locs) (h : xCtxX p l e R s m args below meth c H locs cells slots mc ms D dT C pc ls st0 rest (fun D dT A => xQl D dT K A) EK av)
    (kx : ∀ (E : String) (ce : Cell) (q : Nat) (C' : XH) (H1 : Heap) (locs1 : List Loc), EK E q C' → xI D dT A s.heap C' H1 locs1 → H1[q]? = some ce → ce.vm = .none → s.vm.findClass E = some ce.cls → vx_W p l e R s m args below meth c H1 locs1 (cells + mc) (slots + ms) Q (F0 m pc ls rest) q)
    (kk : ∀ (r : Int64) (C' : XH) (H1 : Heap) (locs1 : List Loc), K r C' → xI D dT A s.heap C' H1 locs1 → W p l e R s m args below meth c H1 locs1 (cells + mc) (slots + ms) Q (F0 m (pc + 3) ls (.long r :: rest))) : W p l e R s m args below meth c H locs cells slots Q (F0 m pc ls st0) :=
  vx_calll h hI.2.2 (fun q _ hq => xA_sub hA hI q hq) (xA_sub hA hI) (fun q _ hq => xA_sub hA hI q hq) (fun E ce q9 C' t H1 locs1 ht _ hp hB _ _ hS c1 c2 c3 => kx E ce q9 C' H1 locs1 hp (x_back (A' := A) hA hI hB ht hS) c1 c2 c3) (fun r C' t H1 locs1 ht _ hp hB _ _ hS => kk r C' H1 locs1 hp (x_back (A' := A) hA hI hB ht hS))
theorem xT_gov {K : XH → Prop} {av : List Value} (hA : ∀ q : Nat, s.heap.size ≤ q → A q) (hI : xI D dT A s.heap C H locs) (h : xCtxX p l e R s m args below meth c H locs cells slots mc ms D dT C pc ls st0 rest (fun D dT A => xQv D dT K A) EK av)
    (kx : ∀ (E : String) (ce : Cell) (q : Nat) (C' : XH) (H1 : Heap) (locs1 : List Loc), EK E q C' → xI D dT A s.heap C' H1 locs1 → H1[q]? = some ce → ce.vm = .none → s.vm.findClass E = some ce.cls → vx_W p l e R s m args below meth c H1 locs1 (cells + mc) (slots + ms) Q (F0 m pc ls rest) q)
    (kk : ∀ (C' : XH) (H1 : Heap) (locs1 : List Loc), K C' → xI D dT A s.heap C' H1 locs1 → W p l e R s m args below meth c H1 locs1 (cells + mc) (slots + ms) Q (F0 m (pc + 3) ls rest)) : W p l e R s m args below meth c H locs cells slots Q (F0 m pc ls st0) :=
  vx_callv h hI.2.2 (fun q _ hq => xA_sub hA hI q hq) (xA_sub hA hI) (fun q _ hq => xA_sub hA hI q hq) (fun E ce q9 C' t H1 locs1 ht _ hp hB _ _ hS c1 c2 c3 => kx E ce q9 C' H1 locs1 hp (x_back (A' := A) hA hI hB ht hS) c1 c2 c3) (fun C' t H1 locs1 ht _ hp hB _ _ hS => kk C' H1 locs1 hp (x_back (A' := A) hA hI hB ht hS))
theorem xT_gor {K : Nat → XH → Prop} {av : List Value} (hA : ∀ q : Nat, s.heap.size ≤ q → A q) (hI : xI D dT A s.heap C H locs) (h : xCtxX p l e R s m args below meth c H locs cells slots mc ms D dT C pc ls st0 rest (fun D dT A => xQr D dT K A) EK av)
    (kx : ∀ (E : String) (ce : Cell) (q : Nat) (C' : XH) (H1 : Heap) (locs1 : List Loc), EK E q C' → xI D dT A s.heap C' H1 locs1 → H1[q]? = some ce → ce.vm = .none → s.vm.findClass E = some ce.cls → vx_W p l e R s m args below meth c H1 locs1 (cells + mc) (slots + ms) Q (F0 m pc ls rest) q)
    (kk : ∀ (r : Nat) (C' : XH) (H1 : Heap) (locs1 : List Loc), K r C' → xI D dT A s.heap C' H1 locs1 → W p l e R s m args below meth c H1 locs1 (cells + mc) (slots + ms) Q (F0 m (pc + 3) ls (.ref r :: rest))) : W p l e R s m args below meth c H locs cells slots Q (F0 m pc ls st0) :=
  vx_callq h hI.2.2 (fun q _ hq => xA_sub hA hI q hq) (xA_sub hA hI) (fun q _ hq => xA_sub hA hI q hq) (fun E ce q9 C' t H1 locs1 ht _ hp hB _ _ hS c1 c2 c3 => kx E ce q9 C' H1 locs1 hp (x_back (A' := A) hA hI hB ht hS) c1 c2 c3) (fun r C' t H1 locs1 ht _ hp hB _ _ hS => by
    obtain ⟨q, rfl, hp⟩ := hp
    exact kk q C' H1 locs1 hp (x_back (A' := A) hA hI hB ht hS))
/-- an exception that a row of the table takes -/
theorem x_catch {hh : List (Nat × Nat × Nat × Nat)} {E nm : String} {ce : Cell} {q : Nat} {k a1 a2 a3 a4 : Nat} (X : xX p s m args meth c own cc nL ret) (hG : xG adK adV A s s.heap) (hT : c.exceptionTable.toList = tableOf hh) (hk : hh[k]? = some (a1, a2, a3, a4)) (hp : ∀ z ∈ (tableOf hh).take k, covers z pc = false ∨ (z.catchType ≠ 0 ∧ ∃ nm : String, Cond.classLink own z.catchType nm ∈ lw_all ∧ (E, nm) ∈ xNc)) (hcv : covers ⟨a1, a2, a3, a4⟩ pc = true) (h0 : a4 ≠ 0) (hlink : Cond.classLink own a4 nm ∈ lw_all) (hcast : (E, nm) ∈ xNwC) (hcell : H[q]? = some ce) (hv : ce.vm = .none) (hcl : s.vm.findClass E = some ce.cls)
    (kk : W p l e R s m args below meth c H locs cells slots Q (F0 m a3 ls [.ref q])) : vx_W p l e R s m args below meth c H locs cells slots Q (F0 m pc ls rest) q := by
  have hk2 : (tableOf hh)[k]? = some ⟨a1, a2, a3, a4⟩ := by
    show (hh.map _)[k]? = _
    rw [List.getElem?_map, hk]
    rfl
  have hkl : k < (tableOf hh).length := (List.getElem?_eq_some_iff.mp hk2).1
  have hsp : tableOf hh = (tableOf hh).take k ++ ⟨a1, a2, a3, a4⟩ :: (tableOf hh).drop (k + 1) := by
    have h1 : (tableOf hh)[k] = ⟨a1, a2, a3, a4⟩ := (List.getElem?_eq_some_iff.mp hk2).2
    rw [← h1, List.getElem_cons_drop, List.take_append_drop]
  refine vx_catch (E := E) (name := nm) X.2.2.2.2.2.1 ((tableOf hh).take k) ⟨a1, a2, a3, a4⟩ ((tableOf hh).drop (k + 1)) (hT.trans hsp) (fun z hz => ?_) hcv h0 (X.2.2.2.2.1 _ hlink) (va_Nw.use (A := args) rfl (hG.1.2.1 (E, nm) hcast)) hcell hv hcl kk
  rcases hp z hz with h | ⟨h1, nm1, h2, h3⟩
  · exact Or.inl h
  · exact Or.inr ⟨h1, nm1, X.2.2.2.2.1 _ h2, hG.1.2.2.1 (E, nm1) h3⟩
theorem x_cov {hh : List (Nat × Nat × Nat × Nat)} {k pc : Nat} {P : ExceptionTableEntry → Prop} (h : ((tableOf hh).take k).all (fun z => !covers z pc) = true) : ∀ z ∈ (tableOf hh).take k, covers z pc = false ∨ P z := by
  intro z hz
  have := List.all_eq_true.mp h z hz
  exact Or.inl (Bool.not_eq_true' _ |>.mp this)
/-- an exception that no row of the table takes -/
theorem x_pass {hh : List (Nat × Nat × Nat × Nat)} {Qc : Array Value → State → Outcome → State → Prop} {E : String} {ce : Cell} {q : Nat} (X : xX p s m args meth c own cc nL ret) (hK : va_K D aCl (aT dT) s) (hT : c.exceptionTable.toList = tableOf hh) (hp : (tableOf hh).all (fun z => !covers z pc) = true) (hI : xI D dT A s.heap C H locs) (hcell : H[q]? = some ce) (hv : ce.vm = .none) (hcl : s.vm.findClass E = some ce.cls) (hq : EK E q C) (hc : cells ≤ mc) (hs : slots ≤ ms) :
    vx_W p l e R s m args below meth c H locs cells slots (vx_MQ below Qc (xXC D dT EK A) args s mc ms A) (F0 m pc ls rest) q :=
  vx_out (fun x hx' => by rw [hT] at hx'; exact Bool.not_eq_true' _ |>.mp (List.all_eq_true.mp hp x hx')) X.2.2.2.2.2.2 hcell hv hcl (fun t ht hA => ⟨C, hq, ⟨by rw [ht]; exact hI.1, va_K.moved hA hK, hI.2.1⟩, hI.2.2.F ht⟩) hI.2.2.2.2 hc hs
/-- .. that the rows that cover the place don't take -/
theorem x_pass2 {hh : List (Nat × Nat × Nat × Nat)} {Qc : Array Value → State → Outcome → State → Prop} {E : String} {ce : Cell} {q : Nat} (X : xX p s m args meth c own cc nL ret) (hK : va_K D aCl (aT dT) s) (hG : xG adK adV A s s.heap) (hT : c.exceptionTable.toList = tableOf hh) (hp : ∀ z ∈ tableOf hh, covers z pc = false ∨ (z.catchType ≠ 0 ∧ ∃ nm : String, Cond.classLink own z.catchType nm ∈ lw_all ∧ (E, nm) ∈ xNc)) (hI : xI D dT A s.heap C H locs) (hcell : H[q]? = some ce) (hv : ce.vm = .none) (hcl : s.vm.findClass E = some ce.cls) (hq : EK E q C) (hc : cells ≤ mc) (hs : slots ≤ ms) :
    vx_W p l e R s m args below meth c H locs cells slots (vx_MQ below Qc (xXC D dT EK A) args s mc ms A) (F0 m pc ls rest) q :=
  vx_outP X.2.2.2.2.2.1 X.2.2.2.2.2.2 (fun z hz => by
    rw [hT] at hz
    rcases hp z hz with h | ⟨h1, nm1, h2, h3⟩
    · exact Or.inl h
    · exact Or.inr ⟨h1, nm1, X.2.2.2.2.1 _ h2, hG.1.2.2.1 (E, nm1) h3⟩) hcell hv hcl (fun t ht hA => ⟨C, hq, ⟨by rw [ht]; exact hI.1, va_K.moved hA hK, hI.2.1⟩, hI.2.2.F ht⟩) hI.2.2.2.2 hc hs
theorem x_thrown (hK : va_K D aCl (aT dT) s) (hI : xI D dT A s.heap C H locs) {q ci : Nat} {fs : List Value} (h : C q = some (.inr (ci, fs))) {Cn : String} {T : u_T} {N : Nat} (hc : aCl[ci]? = some (Cn, T, N)) : ∃ ce : Cell, H[q]? = some ce ∧ ce.vm = .none ∧ s.vm.findClass Cn = some ce.cls := by
  obtain ⟨r, g1, cell, q1, q2, q3, q4⟩ := hI.1 q _ h
  refine ⟨cell, q1, q3, ?_⟩
  rw [q2]
  exact (hK.1 ci _ hc).2.1
theorem x_have (hK : va_K D aCl (aT dT) s) (hI : xI D dT A s.heap C H locs) {q ci : Nat} {fs : List Value} (h : C q = some (.inr (ci, fs))) {w : vw_C} (hc : aCl[ci]? = some w) : ∃ cell : Cell, H[q]? = some cell ∧ cell.vm.isStatics = false ∧ s.vm.findClass w.1 = some cell.cls := va_recv hK (hI.1.one h) hc (q0 := 0) rfl
end XTHROW
