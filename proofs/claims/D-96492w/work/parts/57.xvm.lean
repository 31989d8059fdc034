/-! what the machine throws by itself, over the clean heap -/
set_option maxRecDepth 100000
set_option maxHeartbeats 4000000 in
theorem x_atA {args : Array Value} {s : State} {A : Nat → Prop} (h : ∀ w ∈ lw_all, w.before args s = true) (hT : xT s) : ∀ w ∈ vx_atM "java/lang/ArrayIndexOutOfBoundsException" ["java/lang/IndexOutOfBoundsException", "java/lang/RuntimeException", "java/lang/Exception"], w.before args s = true := by
  intro w hw
  have hw : w ∈ (Bundle.messageArmAtoms "java/lang/ArrayIndexOutOfBoundsException" ["java/lang/IndexOutOfBoundsException", "java/lang/RuntimeException", "java/lang/Exception"]).filter vx_no := hw
  have hw2 := (List.mem_filter.mp hw).2
  have hw := (List.mem_filter.mp hw).1
  simp only [Bundle.messageArmAtoms, Bundle.throwableAtoms, Bundle.throwableSAtoms, Bundle.chainSAtoms, Bundle.passSAtoms, Bundle.stringAtoms, List.mem_append, List.mem_cons, List.not_mem_nil, or_false, List.cons_append, List.nil_append] at hw
  have hc : (Cond.castable "java/lang/ArrayIndexOutOfBoundsException" "java/lang/ArrayIndexOutOfBoundsException").before args s = true := va_Nw.use rfl (hT.2.1 ("java/lang/ArrayIndexOutOfBoundsException", "java/lang/ArrayIndexOutOfBoundsException") (by decide))
  have hd0 : (Cond.declares (Bundle.initS "java/lang/Throwable")).before args s = true := va_Nw.use rfl (hT.1 (Bundle.initS "java/lang/Throwable") (by decide))
  have hd1 : (Cond.declares (Bundle.initS "java/lang/Exception")).before args s = true := va_Nw.use rfl (hT.1 (Bundle.initS "java/lang/Exception") (by decide))
  have hd2 : (Cond.declares (Bundle.initS "java/lang/RuntimeException")).before args s = true := va_Nw.use rfl (hT.1 (Bundle.initS "java/lang/RuntimeException") (by decide))
  have hd3 : (Cond.declares (Bundle.initS "java/lang/IndexOutOfBoundsException")).before args s = true := va_Nw.use rfl (hT.1 (Bundle.initS "java/lang/IndexOutOfBoundsException") (by decide))
  repeat' refine Or.elim hw (fun hw => ?_) (fun hw => ?_)
  all_goals (subst hw)
  all_goals first | exact hc | exact hd0 | exact hd1 | exact hd2 | exact hd3 | (exfalso; revert hw2; decide) | exact h _ q101 | exact h _ q382 | exact h _ q383 | exact h _ q384 | exact h _ q385 | exact h _ q387 | exact h _ q389 | exact h _ q390 | exact h _ q391 | exact h _ q397 | exact h _ q398 | exact h _ q400 | exact h _ q401 | exact h _ q402 | exact h _ q436 | exact h _ q404 | exact h _ q405 | exact h _ q406 | exact h _ q407 | exact h _ q409 | exact h _ q411 | exact h _ q413 | exact h _ q415 | exact h _ q417 | exact h _ q419 | exact h _ q431 | exact h _ q432 | exact h _ q433 | exact h _ q434 | exact h _ q435 | exact h _ q437 | exact h _ q438 | exact h _ q439 | exact h _ q461 | exact h _ q462 | exact h _ q2032 | exact h _ q102 | exact h _ q379 | exact h _ q380 | exact h _ q381 | exact h _ q458 | exact h _ q459 | exact h _ q460 | exact h _ q1060 | exact h _ q136 | exact h _ q137 | exact h _ q103 | exact h _ q376 | exact h _ q377 | exact h _ q378 | exact h _ q104 | exact h _ q373 | exact h _ q374 | exact h _ q375 | exact h _ q105 | exact h _ q369 | exact h _ q370 | exact h _ q371 | exact h _ q372 | exact h _ q394 | exact h _ q408 | exact h _ q410 | exact h _ q412 | exact h _ q414 | exact h _ q416 | exact h _ q418 | exact h _ q420 | exact h _ q430 | exact h _ q106 | exact h _ q440 | exact h _ q442 | exact h _ q443 | exact h _ q444 | exact h _ q445 | exact h _ q1023 | exact h _ q1024 | exact h _ q1025 | exact h _ q1026 | exact h _ q1027 | exact h _ q1028 | exact h _ q1029 | exact h _ q1030 | exact h _ q1033 | exact h _ q1034 | exact h _ q1035 | exact h _ q1036 | exact h _ q1037 | exact h _ q1038 | exact h _ q1039 | exact h _ q1040 | exact h _ q1044 | exact h _ q1045 | exact h _ q1046 | exact h _ q1048 | exact h _ q1051 | exact h _ q2059 | exact h _ q2060 | exact h _ q396 | exact h _ q483 | exact h _ q484 | exact h _ q485 | exact h _ q486 | exact h _ q487 | exact h _ q488 | exact h _ q489 | exact h _ q490 | exact h _ q492 | exact h _ q395 | exact h _ q554 | exact h _ q555 | exact h _ q556 | exact h _ q557 | exact h _ q558 | exact h _ q559 | exact h _ q560 | exact h _ q561 | exact h _ q563 | exact h _ q1043 | exact h _ q155 | exact h _ q441 | exact h _ q516 | exact h _ q537 | exact h _ qs1
set_option maxHeartbeats 4000000 in
theorem x_atC {args : Array Value} {s : State} {A : Nat → Prop} (h : ∀ w ∈ lw_all, w.before args s = true) (hT : xT s) : ∀ w ∈ vx_atM "java/lang/ClassCastException" ["java/lang/RuntimeException", "java/lang/Exception"], w.before args s = true := by
  intro w hw
  have hw : w ∈ (Bundle.messageArmAtoms "java/lang/ClassCastException" ["java/lang/RuntimeException", "java/lang/Exception"]).filter vx_no := hw
  have hw2 := (List.mem_filter.mp hw).2
  have hw := (List.mem_filter.mp hw).1
  simp only [Bundle.messageArmAtoms, Bundle.throwableAtoms, Bundle.throwableSAtoms, Bundle.chainSAtoms, Bundle.passSAtoms, Bundle.stringAtoms, List.mem_append, List.mem_cons, List.not_mem_nil, or_false, List.cons_append, List.nil_append] at hw
  have hc : (Cond.castable "java/lang/ClassCastException" "java/lang/ClassCastException").before args s = true := va_Nw.use rfl (hT.2.1 ("java/lang/ClassCastException", "java/lang/ClassCastException") (by decide))
  have hd0 : (Cond.declares (Bundle.initS "java/lang/Throwable")).before args s = true := va_Nw.use rfl (hT.1 (Bundle.initS "java/lang/Throwable") (by decide))
  have hd1 : (Cond.declares (Bundle.initS "java/lang/Exception")).before args s = true := va_Nw.use rfl (hT.1 (Bundle.initS "java/lang/Exception") (by decide))
  have hd2 : (Cond.declares (Bundle.initS "java/lang/RuntimeException")).before args s = true := va_Nw.use rfl (hT.1 (Bundle.initS "java/lang/RuntimeException") (by decide))
  have hd3 : (Cond.declares (Bundle.initS "java/lang/IndexOutOfBoundsException")).before args s = true := va_Nw.use rfl (hT.1 (Bundle.initS "java/lang/IndexOutOfBoundsException") (by decide))
  repeat' refine Or.elim hw (fun hw => ?_) (fun hw => ?_)
  all_goals (subst hw)
  all_goals first | exact hc | exact hd0 | exact hd1 | exact hd2 | exact hd3 | (exfalso; revert hw2; decide) | exact h _ q101 | exact h _ q382 | exact h _ q383 | exact h _ q384 | exact h _ q385 | exact h _ q387 | exact h _ q389 | exact h _ q390 | exact h _ q391 | exact h _ q397 | exact h _ q398 | exact h _ q400 | exact h _ q401 | exact h _ q402 | exact h _ q436 | exact h _ q404 | exact h _ q405 | exact h _ q406 | exact h _ q407 | exact h _ q409 | exact h _ q411 | exact h _ q413 | exact h _ q415 | exact h _ q417 | exact h _ q419 | exact h _ q431 | exact h _ q432 | exact h _ q433 | exact h _ q434 | exact h _ q435 | exact h _ q437 | exact h _ q438 | exact h _ q439 | exact h _ q461 | exact h _ q462 | exact h _ q2032 | exact h _ q102 | exact h _ q379 | exact h _ q380 | exact h _ q381 | exact h _ q458 | exact h _ q459 | exact h _ q460 | exact h _ q1060 | exact h _ q136 | exact h _ q137 | exact h _ q103 | exact h _ q376 | exact h _ q377 | exact h _ q378 | exact h _ q375 | exact h _ q394 | exact h _ q408 | exact h _ q410 | exact h _ q412 | exact h _ q414 | exact h _ q416 | exact h _ q418 | exact h _ q430 | exact h _ q106 | exact h _ q440 | exact h _ q442 | exact h _ q443 | exact h _ q444 | exact h _ q445 | exact h _ q1023 | exact h _ q1024 | exact h _ q1025 | exact h _ q1026 | exact h _ q1027 | exact h _ q1028 | exact h _ q1029 | exact h _ q1030 | exact h _ q1033 | exact h _ q1034 | exact h _ q1035 | exact h _ q1036 | exact h _ q1037 | exact h _ q1038 | exact h _ q1039 | exact h _ q1040 | exact h _ q1044 | exact h _ q1045 | exact h _ q1046 | exact h _ q1048 | exact h _ q1051 | exact h _ q2059 | exact h _ q2060 | exact h _ q396 | exact h _ q483 | exact h _ q484 | exact h _ q485 | exact h _ q486 | exact h _ q487 | exact h _ q488 | exact h _ q489 | exact h _ q490 | exact h _ q492 | exact h _ q114 | exact h _ q395 | exact h _ q551 | exact h _ q552 | exact h _ q553 | exact h _ q554 | exact h _ q555 | exact h _ q556 | exact h _ q557 | exact h _ q558 | exact h _ q559 | exact h _ q560 | exact h _ q561 | exact h _ q563 | exact h _ q1043 | exact h _ q155 | exact h _ q441 | exact h _ q516 | exact h _ q537 | exact h _ qs1

section XVM
variable {p : Program} {l : Launch} {e : Env} {R : Room} {s : State} {m : MethodId} {args : Array Value} {below : List Frame} {meth : Method} {c : Code} {H : Heap} {locs : List Loc} {cells slots : Nat} {Q : State → Prop}
variable {own : String} {cc : ByteArray} {nL : Nat} {ret : Option FieldType} {pc : Nat} {ls : Array Slot} {rest : List Value} {D : va_G} {dT : Nat → ClassId} {adK adV : Nat → Nat} {A : Nat → Prop} {C : XH} {a : Nat}
theorem xI.more {H0 H1 : Heap} (hI : xI D dT A H0 C H locs) (h : ∀ q : Nat, q < H.size → H1[q]? = H[q]?) (hS : va_S A H0 H1 locs) : xI D dT A H0 C H1 locs :=
  ⟨fun b e hb => (hI.1 b e hb).kept (h b (hI.1 b e hb).lt), hI.2.1, hS⟩
theorem x_vmA_ot : ∀ w ∈ vx_atM "java/lang/ArrayIndexOutOfBoundsException" ["java/lang/IndexOutOfBoundsException", "java/lang/RuntimeException", "java/lang/Exception"], vx_ot w = true := by decide +kernel
theorem x_vmA {text : String} (X : xX p s m args meth c own cc nL ret) (hG : xG adK adV A s s.heap) (hI : xI D dT A s.heap C H locs) (hl0 : l.stackTraces = false) (hsz : ls.size = nL) (ht : (text == notModelled) = false) (hn : (stringBytes (stringToUtf16 text)).size ≤ 1000) (hRf : 8 ≤ R.frames) (hRl : (rest.map fun v => v.category).sum + 10240 ≤ R.locals) (hc : cells + 3 ≤ R.cells) (hs : slots + 1010 ≤ R.slots)
    (k : ∀ (ce : Cell) (q : Nat) (H1 : Heap), xI D dT A s.heap C H1 locs → H1[q]? = some ce → ce.vm = .none → s.vm.findClass "java/lang/ArrayIndexOutOfBoundsException" = some ce.cls → vx_W p l e R s m args below meth c H1 locs (cells + 3) (slots + 1010) Q (F0 m pc ls rest) q) : vx_Note p l e R s m args below meth c H locs cells slots Q (F0 m pc ls rest) "java/lang/ArrayIndexOutOfBoundsException" text :=
  vx_vm (names := ["java/lang/IndexOutOfBoundsException", "java/lang/RuntimeException", "java/lang/Exception"]) (nb := 1000) X.1 hl0 (by decide +kernel) (by decide +kernel) (by decide +kernel) (by decide +kernel) (x_atA (A := A) X.2.2.2.2.1 hG.1) x_vmA_ot hG.2.1 hG.2.2.1 hI.2.2 (hsz.trans X.2.2.2.1.symm) ht hn (Nat.le_refl _) (by show _ < _; simp only [List.length_cons, List.length_nil]; omega) hRl (by decide) hc hs X.2.2.2.2.2.2 (fun H1 q ce h1 h2 h3 h4 h5 h6 => k ce q H1 (hI.more h2 h3) h4 h5 h6)
theorem x_vmC_ot : ∀ w ∈ vx_atM "java/lang/ClassCastException" ["java/lang/RuntimeException", "java/lang/Exception"], vx_ot w = true := by decide +kernel
theorem x_vmC {text : String} (X : xX p s m args meth c own cc nL ret) (hG : xG adK adV A s s.heap) (hI : xI D dT A s.heap C H locs) (hl0 : l.stackTraces = false) (hsz : ls.size = nL) (ht : (text == notModelled) = false) (hn : (stringBytes (stringToUtf16 text)).size ≤ 1000) (hRf : 8 ≤ R.frames) (hRl : (rest.map fun v => v.category).sum + 10240 ≤ R.locals) (hc : cells + 3 ≤ R.cells) (hs : slots + 1010 ≤ R.slots)
    (k : ∀ (ce : Cell) (q : Nat) (H1 : Heap), xI D dT A s.heap C H1 locs → H1[q]? = some ce → ce.vm = .none → s.vm.findClass "java/lang/ClassCastException" = some ce.cls → vx_W p l e R s m args below meth c H1 locs (cells + 3) (slots + 1010) Q (F0 m pc ls rest) q) : vx_Note p l e R s m args below meth c H locs cells slots Q (F0 m pc ls rest) "java/lang/ClassCastException" text :=
  vx_vm (names := ["java/lang/RuntimeException", "java/lang/Exception"]) (nb := 1000) X.1 hl0 (by decide +kernel) (by decide +kernel) (by decide +kernel) (by decide +kernel) (x_atC (A := A) X.2.2.2.2.1 hG.1) x_vmC_ot hG.2.1 hG.2.2.1 hI.2.2 (hsz.trans X.2.2.2.1.symm) ht hn (Nat.le_refl _) (by show _ < _; simp only [List.length_cons, List.length_nil]; omega) hRl (by decide) hc hs X.2.2.2.2.2.2 (fun H1 q ce h1 h2 h3 h4 h5 h6 => k ce q H1 (hI.more h2 h3) h4 h5 h6)
theorem x_txt {i : Int32} {n : Nat} {tx : String} (h : n < 2 ^ 31) (e : tx = (toString "Index " ++ toString i ++ toString " out of bounds for length " ++ toString n : String)) : (tx == notModelled) = false ∧ (stringBytes (stringToUtf16 tx)).size ≤ 1000 := by
  subst e
  exact ⟨index_text_modelled i n, Nat.le_trans (index_text_bytes i h) (by decide)⟩
/-- loads and stores that may be out of range -/
def xaiT (C : XH) (t a : Nat) (i : Int32) (K : Int32 → Prop) (E : Nat → Prop) : Prop := ∃ (n : Nat) (f : Nat → Int32), C a = some (.inl (t, n, .inl f)) ∧ (vp_in i n → K (f i.toNatClampNeg)) ∧ (¬ vp_in i n → n < 2 ^ 31 ∧ ∀ q, E q)
def xalT (C : XH) (a : Nat) (i : Int32) (K : Int64 → Prop) (E : Nat → Prop) : Prop := ∃ (n : Nat) (f : Nat → Int64), C a = some (.inl (1, n, .inr (.inl f))) ∧ (vp_in i n → K (f i.toNatClampNeg)) ∧ (¬ vp_in i n → n < 2 ^ 31 ∧ ∀ q, E q)
def xarT (C : XH) (t a : Nat) (i : Int32) (K : Nat → Prop) (E : Nat → Prop) : Prop := ∃ (n : Nat) (f : Nat → Option Nat), C a = some (.inl (t, n, .inr (.inr (.inr (.inr f))))) ∧ (vp_in i n → ∃ v, f i.toNatClampNeg = some v ∧ K v) ∧ (¬ vp_in i n → n < 2 ^ 31 ∧ ∀ q, E q)
def xsiT (C : XH) (t a : Nat) (i v : Int32) (K : XH → Prop) (E : Nat → Prop) : Prop := ∃ (n : Nat) (f : Nat → Int32), C a = some (.inl (t, n, .inl f)) ∧ (vp_in i n → K (xset C a (.inl (t, n, .inl (upd f i.toNatClampNeg (vp_nar (aTy t) v)))))) ∧ (¬ vp_in i n → n < 2 ^ 31 ∧ ∀ q, E q)
def xslT (C : XH) (a : Nat) (i : Int32) (v : Int64) (K : XH → Prop) (E : Nat → Prop) : Prop := ∃ (n : Nat) (f : Nat → Int64), C a = some (.inl (1, n, .inr (.inl f))) ∧ (vp_in i n → K (xset C a (.inl (1, n, .inr (.inl (vp_updL f i.toNatClampNeg v)))))) ∧ (¬ vp_in i n → n < 2 ^ 31 ∧ ∀ q, E q)
theorem x_ialdT (X : xX p s m args meth c own cc nL ret) (hK : va_K D aCl (aT dT) s) (hG : xG adK adV A s s.heap) (hI : xI D dT A s.heap C H locs) {i : Int32} {K : Int32 → Prop} {E : Nat → Prop} (h : xaiT C 0 a i K E) (hl0 : l.stackTraces = false) (hsz : ls.size = nL) (hRf : 8 ≤ R.frames) (hRl : (rest.map fun v => v.category).sum + 10240 ≤ R.locals) (hc : cells + 3 ≤ R.cells) (hs : slots + 1010 ≤ R.slots) (hdg : decode cc pc = .ok (.iaload, 1))
    (kE : ∀ (ce : Cell) (q : Nat) (H1 : Heap), E q → xI D dT A s.heap C H1 locs → H1[q]? = some ce → ce.vm = .none → s.vm.findClass "java/lang/ArrayIndexOutOfBoundsException" = some ce.cls → vx_W p l e R s m args below meth c H1 locs (cells + 3) (slots + 1010) Q (F0 m pc ls rest) q) (kk : ∀ v : Int32, K v → W p l e R s m args below meth c H locs cells slots Q (F0 m (pc + 1) ls (.int v :: rest))) : W p l e R s m args below meth c H locs cells slots Q (F0 m pc ls (.int i :: .ref a :: rest)) := by
  obtain ⟨n, f, g1, g2, g3⟩ := h
  by_cases hin : vp_in i n
  · exact va_iald X.1 X.2.1 hK (hI.1.one g1) 0 0 rfl rfl hin hdg (kk _ (g2 hin))
  · obtain ⟨g4, g5⟩ := g3 hin
    exact vx_ialdZ X.1 X.2.1 hK (hI.1.one g1) 0 0 rfl rfl hin hdg (fun tx htx => x_vmA X hG hI hl0 hsz (x_txt g4 htx).1 (x_txt g4 htx).2 hRf hRl hc hs (fun ce q H1 => kE ce q H1 (g5 q)))
theorem x_baldT (X : xX p s m args meth c own cc nL ret) (hK : va_K D aCl (aT dT) s) (hG : xG adK adV A s s.heap) (hI : xI D dT A s.heap C H locs) {i : Int32} {K : Int32 → Prop} {E : Nat → Prop} (h : xaiT C 2 a i K E) (hl0 : l.stackTraces = false) (hsz : ls.size = nL) (hRf : 8 ≤ R.frames) (hRl : (rest.map fun v => v.category).sum + 10240 ≤ R.locals) (hc : cells + 3 ≤ R.cells) (hs : slots + 1010 ≤ R.slots) (hdg : decode cc pc = .ok (.baload, 1))
    (kE : ∀ (ce : Cell) (q : Nat) (H1 : Heap), E q → xI D dT A s.heap C H1 locs → H1[q]? = some ce → ce.vm = .none → s.vm.findClass "java/lang/ArrayIndexOutOfBoundsException" = some ce.cls → vx_W p l e R s m args below meth c H1 locs (cells + 3) (slots + 1010) Q (F0 m pc ls rest) q) (kk : ∀ v : Int32, K v → W p l e R s m args below meth c H locs cells slots Q (F0 m (pc + 1) ls (.int v :: rest))) : W p l e R s m args below meth c H locs cells slots Q (F0 m pc ls (.int i :: .ref a :: rest)) := by
  obtain ⟨n, f, g1, g2, g3⟩ := h
  by_cases hin : vp_in i n
  · exact va_bald X.1 X.2.1 hK (hI.1.one g1) 0 2 rfl rfl hin hdg (kk _ (g2 hin))
  · obtain ⟨g4, g5⟩ := g3 hin
    exact vx_baldZ X.1 X.2.1 hK (hI.1.one g1) 0 2 rfl rfl hin hdg (fun tx htx => x_vmA X hG hI hl0 hsz (x_txt g4 htx).1 (x_txt g4 htx).2 hRf hRl hc hs (fun ce q H1 => kE ce q H1 (g5 q)))
theorem x_saldT (X : xX p s m args meth c own cc nL ret) (hK : va_K D aCl (aT dT) s) (hG : xG adK adV A s s.heap) (hI : xI D dT A s.heap C H locs) {i : Int32} {K : Int32 → Prop} {E : Nat → Prop} (h : xaiT C 3 a i K E) (hl0 : l.stackTraces = false) (hsz : ls.size = nL) (hRf : 8 ≤ R.frames) (hRl : (rest.map fun v => v.category).sum + 10240 ≤ R.locals) (hc : cells + 3 ≤ R.cells) (hs : slots + 1010 ≤ R.slots) (hdg : decode cc pc = .ok (.saload, 1))
    (kE : ∀ (ce : Cell) (q : Nat) (H1 : Heap), E q → xI D dT A s.heap C H1 locs → H1[q]? = some ce → ce.vm = .none → s.vm.findClass "java/lang/ArrayIndexOutOfBoundsException" = some ce.cls → vx_W p l e R s m args below meth c H1 locs (cells + 3) (slots + 1010) Q (F0 m pc ls rest) q) (kk : ∀ v : Int32, K v → W p l e R s m args below meth c H locs cells slots Q (F0 m (pc + 1) ls (.int v :: rest))) : W p l e R s m args below meth c H locs cells slots Q (F0 m pc ls (.int i :: .ref a :: rest)) := by
  obtain ⟨n, f, g1, g2, g3⟩ := h
  by_cases hin : vp_in i n
  · exact va_sald X.1 X.2.1 hK (hI.1.one g1) 0 3 rfl rfl hin hdg (kk _ (g2 hin))
  · obtain ⟨g4, g5⟩ := g3 hin
    exact vx_saldZ X.1 X.2.1 hK (hI.1.one g1) 0 3 rfl rfl hin hdg (fun tx htx => x_vmA X hG hI hl0 hsz (x_txt g4 htx).1 (x_txt g4 htx).2 hRf hRl hc hs (fun ce q H1 => kE ce q H1 (g5 q)))
theorem x_laldT (X : xX p s m args meth c own cc nL ret) (hK : va_K D aCl (aT dT) s) (hG : xG adK adV A s s.heap) (hI : xI D dT A s.heap C H locs) {i : Int32} {K : Int64 → Prop} {E : Nat → Prop} (h : xalT C a i K E) (hl0 : l.stackTraces = false) (hsz : ls.size = nL) (hRf : 8 ≤ R.frames) (hRl : (rest.map fun v => v.category).sum + 10240 ≤ R.locals) (hc : cells + 3 ≤ R.cells) (hs : slots + 1010 ≤ R.slots) (hdg : decode cc pc = .ok (.laload, 1))
    (kE : ∀ (ce : Cell) (q : Nat) (H1 : Heap), E q → xI D dT A s.heap C H1 locs → H1[q]? = some ce → ce.vm = .none → s.vm.findClass "java/lang/ArrayIndexOutOfBoundsException" = some ce.cls → vx_W p l e R s m args below meth c H1 locs (cells + 3) (slots + 1010) Q (F0 m pc ls rest) q) (kk : ∀ v : Int64, K v → W p l e R s m args below meth c H locs cells slots Q (F0 m (pc + 1) ls (.long v :: rest))) : W p l e R s m args below meth c H locs cells slots Q (F0 m pc ls (.int i :: .ref a :: rest)) := by
  obtain ⟨n, f, g1, g2, g3⟩ := h
  by_cases hin : vp_in i n
  · exact va_lald X.1 X.2.1 hK (hI.1.one g1) 0 1 rfl rfl hin hdg (kk _ (g2 hin))
  · obtain ⟨g4, g5⟩ := g3 hin
    exact vx_laldZ X.1 X.2.1 hK (hI.1.one g1) 0 1 rfl rfl hin hdg (fun tx htx => x_vmA X hG hI hl0 hsz (x_txt g4 htx).1 (x_txt g4 htx).2 hRf hRl hc hs (fun ce q H1 => kE ce q H1 (g5 q)))
theorem x_aaldT (t : Nat) {E0 : String} (X : xX p s m args meth c own cc nL ret) (hK : va_K D aCl (aT dT) s) (hG : xG adK adV A s s.heap) (hI : xI D dT A s.heap C H locs) (ht : (aT dT)[t]? = some (dT t, .object E0)) {i : Int32} {K : Nat → Prop} {E : Nat → Prop} (h : xarT C t a i K E) (hl0 : l.stackTraces = false) (hsz : ls.size = nL) (hRf : 8 ≤ R.frames) (hRl : (rest.map fun v => v.category).sum + 10240 ≤ R.locals) (hc : cells + 3 ≤ R.cells) (hs : slots + 1010 ≤ R.slots) (hdg : decode cc pc = .ok (.aaload, 1))
    (kE : ∀ (ce : Cell) (q : Nat) (H1 : Heap), E q → xI D dT A s.heap C H1 locs → H1[q]? = some ce → ce.vm = .none → s.vm.findClass "java/lang/ArrayIndexOutOfBoundsException" = some ce.cls → vx_W p l e R s m args below meth c H1 locs (cells + 3) (slots + 1010) Q (F0 m pc ls rest) q) (kk : ∀ v : Nat, K v → W p l e R s m args below meth c H locs cells slots Q (F0 m (pc + 1) ls (.ref v :: rest))) : W p l e R s m args below meth c H locs cells slots Q (F0 m pc ls (.int i :: .ref a :: rest)) := by
  obtain ⟨n, f, g1, g2, g3⟩ := h
  by_cases hin : vp_in i n
  · obtain ⟨v, g4, g5⟩ := g2 hin
    exact x_aald X hK hI t ht rfl (v := v) (by simp only [xar, g1]; rw [if_pos ⟨trivial, hin⟩]; exact g4) hdg (kk _ g5)
  · obtain ⟨g4, g5⟩ := g3 hin
    intro T hT X0
    obtain ⟨t9, st, q⟩ := x_vmA (pc := pc) (text := (toString "Index " ++ toString i ++ toString " out of bounds for length " ++ toString n : String)) (Q := Q) (rest := rest) X hG hI hl0 hsz (x_txt g4 rfl).1 (x_txt g4 rfl).2 hRf hRl hc hs (fun ce q H1 => kE ce q H1 (g5 q)) T hT X0
    refine ⟨t9, ?_, q⟩
    have h1 := X0.aaloadOut X.1 (by rw [hT]; exact hI.1 a _ g1) ((hK.2 t _ ht).1 n (fun j => va_rf (f j))) (j := i) (by show (i < 0 ∨ (arrV _ _ _).slots.size ≤ _); rw [arrV_size]; exact Classical.byContradiction hin) (g := F0 m pc ls (.int i :: .ref a :: rest)) rfl (rest := rest) rfl (by rw [X.2.1]; exact hdg) t9
    have e9 : (vp_cell (dT t) (n, .inr (.inr (.inr (.inr f))))).slots.size = n := by rw [vp_cell_q, arrV_size]
    have e8 : ∀ cell : Cell, toE dT (.inl (t, n, .inr (.inr (.inr (.inr f))))) = toE dT (.inl (t, n, .inr (.inr (.inr (.inr f))))) := fun _ => rfl
    simp only [arrV_size] at h1
    exact h1 st
theorem x_iastT (X : xX p s m args meth c own cc nL ret) (hK : va_K D aCl (aT dT) s) (hG : xG adK adV A s s.heap) (hI : xI D dT A s.heap C H locs) {i x : Int32} {K : XH → Prop} {E : Nat → Prop} (h : xsiT C 0 a i x K E) (hl0 : l.stackTraces = false) (hsz : ls.size = nL) (hRf : 8 ≤ R.frames) (hRl : (rest.map fun v => v.category).sum + 10240 ≤ R.locals) (hc : cells + 3 ≤ R.cells) (hs : slots + 1010 ≤ R.slots) (hdg : decode cc pc = .ok (.iastore, 1))
    (kE : ∀ (ce : Cell) (q : Nat) (H1 : Heap), E q → xI D dT A s.heap C H1 locs → H1[q]? = some ce → ce.vm = .none → s.vm.findClass "java/lang/ArrayIndexOutOfBoundsException" = some ce.cls → vx_W p l e R s m args below meth c H1 locs (cells + 3) (slots + 1010) Q (F0 m pc ls rest) q) (kk : ∀ (C' : XH) (H1 : Heap) (locs1 : List Loc), K C' → xI D dT A s.heap C' H1 locs1 → W p l e R s m args below meth c H1 locs1 cells slots Q (F0 m (pc + 1) ls rest)) : W p l e R s m args below meth c H locs cells slots Q (F0 m pc ls (.int x :: .int i :: .ref a :: rest)) := by
  obtain ⟨n, f, g1, g2, g3⟩ := h
  by_cases hin : vp_in i n
  · refine W.iast X.1 X.2.1 (hI.1 a _ g1) ((hK.2 0 _ rfl).1 n (fun j => .int (f j))) (fun q => by cases q) (by show ¬ (i < 0 ∨ (arrV _ _ _).slots.size ≤ _); rw [arrV_size]; exact hin) rfl rfl hdg fun H1 e z oq => ?_
    refine kk _ H1 _ (g2 hin) (hI.upd g1 ?_ oq (hI.2.2.put z oq (hI.2.1 a _ g1)))
    show H1[a]? = some (vp_cell _ _)
    rw [e]
    show some ((vp_cell (dT 0) (n, .inl f)).setSlot _ _) = _
    rw [vp_cell_i, vp_cell_i, arrV_store]
    congr 2
    funext q
    by_cases hq : q = i.toNatClampNeg
    · subst hq
      simp [updV, upd, vp_nar, aTy]
      try rfl
    · simp [updV, upd, hq]
  · obtain ⟨g4, g5⟩ := g3 hin
    exact vx_iastZ X.1 X.2.1 hK (hI.1.one g1) 0 0 rfl rfl hin hdg (fun tx htx => x_vmA X hG hI hl0 hsz (x_txt g4 htx).1 (x_txt g4 htx).2 hRf hRl hc hs (fun ce q H1 => kE ce q H1 (g5 q)))
theorem x_bastT (X : xX p s m args meth c own cc nL ret) (hK : va_K D aCl (aT dT) s) (hG : xG adK adV A s s.heap) (hI : xI D dT A s.heap C H locs) {i x : Int32} {K : XH → Prop} {E : Nat → Prop} (h : xsiT C 2 a i x K E) (hl0 : l.stackTraces = false) (hsz : ls.size = nL) (hRf : 8 ≤ R.frames) (hRl : (rest.map fun v => v.category).sum + 10240 ≤ R.locals) (hc : cells + 3 ≤ R.cells) (hs : slots + 1010 ≤ R.slots) (hdg : decode cc pc = .ok (.bastore, 1))
    (kE : ∀ (ce : Cell) (q : Nat) (H1 : Heap), E q → xI D dT A s.heap C H1 locs → H1[q]? = some ce → ce.vm = .none → s.vm.findClass "java/lang/ArrayIndexOutOfBoundsException" = some ce.cls → vx_W p l e R s m args below meth c H1 locs (cells + 3) (slots + 1010) Q (F0 m pc ls rest) q) (kk : ∀ (C' : XH) (H1 : Heap) (locs1 : List Loc), K C' → xI D dT A s.heap C' H1 locs1 → W p l e R s m args below meth c H1 locs1 cells slots Q (F0 m (pc + 1) ls rest)) : W p l e R s m args below meth c H locs cells slots Q (F0 m pc ls (.int x :: .int i :: .ref a :: rest)) := by
  obtain ⟨n, f, g1, g2, g3⟩ := h
  by_cases hin : vp_in i n
  · refine W.bast X.1 X.2.1 (hI.1 a _ g1) ((hK.2 2 _ rfl).1 n (fun j => .int (f j))) (fun q => by cases q) (by show ¬ (i < 0 ∨ (arrV _ _ _).slots.size ≤ _); rw [arrV_size]; exact hin) rfl rfl hdg fun H1 e z oq => ?_
    refine kk _ H1 _ (g2 hin) (hI.upd g1 ?_ oq (hI.2.2.put z oq (hI.2.1 a _ g1)))
    show H1[a]? = some (vp_cell _ _)
    rw [e]
    show some ((vp_cell (dT 2) (n, .inl f)).setSlot _ _) = _
    rw [vp_cell_i, vp_cell_i, arrV_store]
    congr 2
    funext q
    by_cases hq : q = i.toNatClampNeg
    · subst hq
      simp [updV, upd, vp_nar, aTy]
      try rfl
    · simp [updV, upd, hq]
  · obtain ⟨g4, g5⟩ := g3 hin
    exact vx_bastZ X.1 X.2.1 hK (hI.1.one g1) 0 2 rfl rfl hin hdg (fun tx htx => x_vmA X hG hI hl0 hsz (x_txt g4 htx).1 (x_txt g4 htx).2 hRf hRl hc hs (fun ce q H1 => kE ce q H1 (g5 q)))
theorem x_sastT (X : xX p s m args meth c own cc nL ret) (hK : va_K D aCl (aT dT) s) (hG : xG adK adV A s s.heap) (hI : xI D dT A s.heap C H locs) {i x : Int32} {K : XH → Prop} {E : Nat → Prop} (h : xsiT C 3 a i x K E) (hl0 : l.stackTraces = false) (hsz : ls.size = nL) (hRf : 8 ≤ R.frames) (hRl : (rest.map fun v => v.category).sum + 10240 ≤ R.locals) (hc : cells + 3 ≤ R.cells) (hs : slots + 1010 ≤ R.slots) (hdg : decode cc pc = .ok (.sastore, 1))
    (kE : ∀ (ce : Cell) (q : Nat) (H1 : Heap), E q → xI D dT A s.heap C H1 locs → H1[q]? = some ce → ce.vm = .none → s.vm.findClass "java/lang/ArrayIndexOutOfBoundsException" = some ce.cls → vx_W p l e R s m args below meth c H1 locs (cells + 3) (slots + 1010) Q (F0 m pc ls rest) q) (kk : ∀ (C' : XH) (H1 : Heap) (locs1 : List Loc), K C' → xI D dT A s.heap C' H1 locs1 → W p l e R s m args below meth c H1 locs1 cells slots Q (F0 m (pc + 1) ls rest)) : W p l e R s m args below meth c H locs cells slots Q (F0 m pc ls (.int x :: .int i :: .ref a :: rest)) := by
  obtain ⟨n, f, g1, g2, g3⟩ := h
  by_cases hin : vp_in i n
  · refine W.sast X.1 X.2.1 (hI.1 a _ g1) ((hK.2 3 _ rfl).1 n (fun j => .int (f j))) (fun q => by cases q) (by show ¬ (i < 0 ∨ (arrV _ _ _).slots.size ≤ _); rw [arrV_size]; exact hin) rfl rfl hdg fun H1 e z oq => ?_
    refine kk _ H1 _ (g2 hin) (hI.upd g1 ?_ oq (hI.2.2.put z oq (hI.2.1 a _ g1)))
    show H1[a]? = some (vp_cell _ _)
    rw [e]
    show some ((vp_cell (dT 3) (n, .inl f)).setSlot _ _) = _
    rw [vp_cell_i, vp_cell_i, arrV_store]
    congr 2
    funext q
    by_cases hq : q = i.toNatClampNeg
    · subst hq
      simp [updV, upd, vp_nar, aTy]
      try rfl
    · simp [updV, upd, hq]
  · obtain ⟨g4, g5⟩ := g3 hin
    exact vx_sastZ X.1 X.2.1 hK (hI.1.one g1) 0 3 rfl rfl hin hdg (fun tx htx => x_vmA X hG hI hl0 hsz (x_txt g4 htx).1 (x_txt g4 htx).2 hRf hRl hc hs (fun ce q H1 => kE ce q H1 (g5 q)))
theorem x_lastT (X : xX p s m args meth c own cc nL ret) (hK : va_K D aCl (aT dT) s) (hG : xG adK adV A s s.heap) (hI : xI D dT A s.heap C H locs) {i : Int32} {x : Int64} {K : XH → Prop} {E : Nat → Prop} (h : xslT C a i x K E) (hl0 : l.stackTraces = false) (hsz : ls.size = nL) (hRf : 8 ≤ R.frames) (hRl : (rest.map fun v => v.category).sum + 10240 ≤ R.locals) (hc : cells + 3 ≤ R.cells) (hs : slots + 1010 ≤ R.slots) (hdg : decode cc pc = .ok (.lastore, 1))
    (kE : ∀ (ce : Cell) (q : Nat) (H1 : Heap), E q → xI D dT A s.heap C H1 locs → H1[q]? = some ce → ce.vm = .none → s.vm.findClass "java/lang/ArrayIndexOutOfBoundsException" = some ce.cls → vx_W p l e R s m args below meth c H1 locs (cells + 3) (slots + 1010) Q (F0 m pc ls rest) q) (kk : ∀ (C' : XH) (H1 : Heap) (locs1 : List Loc), K C' → xI D dT A s.heap C' H1 locs1 → W p l e R s m args below meth c H1 locs1 cells slots Q (F0 m (pc + 1) ls rest)) : W p l e R s m args below meth c H locs cells slots Q (F0 m pc ls (.long x :: .int i :: .ref a :: rest)) := by
  obtain ⟨n, f, g1, g2, g3⟩ := h
  by_cases hin : vp_in i n
  · refine W.last X.1 X.2.1 (hI.1 a _ g1) ((hK.2 1 _ rfl).1 n (fun j => .long (f j))) (fun q => by cases q) (by show ¬ (i < 0 ∨ (arrV _ _ _).slots.size ≤ _); rw [arrV_size]; exact hin) rfl rfl hdg fun H1 e z oq => ?_
    refine kk _ H1 _ (g2 hin) (hI.upd g1 ?_ oq (hI.2.2.put z oq (hI.2.1 a _ g1)))
    show H1[a]? = some (vp_cell _ _)
    rw [e]
    show some ((vp_cell (dT 1) (n, .inr (.inl f))).setSlot _ _) = _
    rw [vp_cell_l, vp_cell_l, arrV_store]
    congr 2
    funext q
    by_cases hq : q = i.toNatClampNeg
    · subst hq
      simp [updV, vp_updL]
    · simp [updV, vp_updL, hq]
  · obtain ⟨g4, g5⟩ := g3 hin
    exact vx_lastZ X.1 X.2.1 hK (hI.1.one g1) 0 1 rfl rfl hin hdg (fun tx htx => x_vmA X hG hI hl0 hsz (x_txt g4 htx).1 (x_txt g4 htx).2 hRf hRl hc hs (fun ce q H1 => kE ce q H1 (g5 q)))
theorem x_gets {Cs n d : String} {index : Nat} (X : xX p s m args meth c own cc nL ret) (hI : xI D dT A s.heap C H locs) (hZ : va_Zq Cs n d A s s.heap) (hlink : Cond.fieldLink own index Cs n d ∈ lw_all) (hdg : decode cc pc = .ok (.getstatic index, 3))
    (kk : ∀ o : Option Nat, W p l e R s m args below meth c H locs cells slots Q (F0 m (pc + 3) ls (va_rf o :: rest))) : W p l e R s m args below meth c H locs cells slots Q (F0 m pc ls rest) := by
  rcases hZ with h | ⟨t, h⟩
  · exact va_gets X.1 X.2.1 h hI.2.2 X.2.2.2.2.2.1 (X.2.2.2.2.1 _ hlink) (fun x hx => hx) hdg (kk none)
  · exact va_gets X.1 X.2.1 h hI.2.2 X.2.2.2.2.2.1 (X.2.2.2.2.1 _ hlink) (fun x hx => hx) hdg (kk (some t))
end XVM
