/-! System.arraycopy out of range -/
set_option maxRecDepth 100000
set_option maxHeartbeats 1000000 in
theorem x_natAt {p : Program} {l : Launch} {e : Env} {R : Room} {s : State} {m₀ : MethodId} {args : Array Value} {below : List Frame} {meth : Method} {c : Code} {W : State} {locs : List Loc} {cells slots : Nat}
    (X : Stand p l e R s m₀ args below meth c W locs cells slots) (hexec : p.tables.exec = Jvm.exec) (htr : e.platform.stackTraces = false) {cls : String} {names : List String} {text : String}
    (hcls : Bundle.fit cls = true) (hnames : ∀ n ∈ names, Bundle.fit n = true) (hsoe : (cls == "java/lang/StackOverflowError") = false) (hoom : (cls == "java/lang/OutOfMemoryError") = false)
    (h : ∀ a ∈ Bundle.messageArmAtoms cls names, a.before args s = true)
    (hlocs : ∀ x ∈ locs, ∀ cell, s.heap[x.base]? = some cell → cell.vm.isStatics = false)
    (htext : (text == notModelled) = false) (hlimit : ¬ (stringBytes (stringToUtf16 text)).size > e.platform.arrayLengthLimit) (hheap : ¬ (stringBytes (stringToUtf16 text)).size * componentBytes .byte > e.platform.maxHeapBytes)
    {g : JFrame} {nf : NFrame} (hnf : nf.words = 0) (haw : nf.awaiting = false) (hlk : nf.locked = none) (hg : g.method = m₀) (hsize : g.locals.size = c.maxLocals)
    (hRframes : names.length + 5 < R.frames) (hRlocals : 2 * g.monitorRoom + (g.stack.map fun v => v.category).sum + 10240 ≤ R.locals) (hshort : 13 * names.length + 55 ≤ 10240)
    (hRcells : cells + 3 ≤ R.cells) (hRslots : slots + ((stringBytes (stringToUtf16 text)).size + 4 + 6) ≤ R.slots) (hlocks : meth.locks = false) :
    ∃ (S : State) (q : Addr) (ce : Cell), (∀ target, Steps p.tables e below ((S.setTop g).pushFrame (.throwing q)) target → Steps p.tables e below (W.setFrames (.throwNew cls (some text) none :: .native nf :: .java g :: below)) target) ∧
      Stand p l e R s m₀ args below meth c S locs (cells + 3) (slots + ((stringBytes (stringToUtf16 text)).size + 4 + 6)) ∧ S.heap[q]? = some ce ∧ s.vm.findClass cls = some ce.cls ∧ ce.vm = .none := by
  have howns : e.platform.frameOwnsMonitors = true := by rw [X.admits.platform]
  have hfin : e.platform.finalization = false := by rw [X.admits.platform]
  have hpl : e.platform.magicAccessors = ({} : Platform).magicAccessors := by rw [X.admits.platform]
  have a : ∀ x, x ∈ Bundle.messageArmAtoms cls names → x.holds args s none s [] = true := fun x hx => h x hx
  obtain ⟨T, Z0, L, -, Y⟩ := ThrowableC.of_atoms (args := args) howns hfin hpl (fun x hx => h x (by simp [Bundle.messageArmAtoms, hx]))
  obtain ⟨Z, M, LZ, LM, hnZ⟩ := Init0T.ofS_atoms (args := args) hpl L Y (fun x hx => h x (by simp [Bundle.messageArmAtoms, hx]))
  obtain ⟨P1, Ps, hlen, L1, hL, hP1m, hlink1, hlink⟩ := Bundle.chainS (args := args) hpl hnZ names cls hcls hnames (fun x hx => h x (by simp [Bundle.messageArmAtoms, hx]))
  obtain ⟨Zs, LZs, hn4, hfitv, hfitc⟩ := StringT.of_atoms (args := args) (fun x hx => h x (by simp [Bundle.messageArmAtoms, hx]))
  have hfound : s.vm.findClass cls = some P1.m.cls := findClass_of_methodNamed hP1m
  obtain ⟨c1, kX, hc1, hk, hord, -, -, hn6⟩ := Cond.instantiable_spec (a (.instantiable cls 6) (by simp [Bundle.messageArmAtoms]))
  cases Option.some.inj (hc1.symm.trans hfound)
  have hinit := Cond.initialized_spec hfound hk (a (.initialized cls) (by simp [Bundle.messageArmAtoms]))
  have hctor : kX.findMethod "<init>" "(Ljava/lang/String;)V" = some P1.m.idx := findMethod_of_methodNamed hP1m hk
  have hsel0 : selectMethod e.platform s.vm P1.m.cls T.fill0 = .method T.fill0 := by
    obtain ⟨c2, r2, m2, q1, q2, q3, q4, -⟩ := Cond.selects_spec (a (.selects cls Bundle.tFill0 Bundle.tFill0) (by simp [Bundle.messageArmAtoms]))
    cases Option.some.inj (q1.symm.trans hfound)
    cases Option.some.inj (q2.symm.trans (State.methodFound?_of_named Y.fill0 (by decide)))
    cases Option.some.inj (q3.symm.trans Y.fill0)
    rw [Launch.admits_selectMethod X.admits]; exact q4
  have hselF : selectMethod e.platform s.vm P1.m.cls T.fill = .method T.fill := by
    obtain ⟨c2, r2, m2, q1, q2, q3, q4, -⟩ := Cond.selects_spec (a (.selects cls Bundle.tFill Bundle.tFill) (by simp [Bundle.messageArmAtoms]))
    cases Option.some.inj (q1.symm.trans hfound)
    cases Option.some.inj (q2.symm.trans (State.methodFound?_of_named Y.fill (by decide)))
    cases Option.some.inj (q3.symm.trans Y.fill)
    rw [Launch.admits_selectMethod X.admits]; exact q4
  obtain ⟨cellS0, hcS0, hiss⟩ := Y.statics
  obtain ⟨u0, hu0⟩ := Cond.staticRefV Y.unassigned L.unassignedStatic L.statics hcS0 hiss (a (.isRef (.static Bundle.tN "UNASSIGNED_STACK" Bundle.steD)) (by simp [Bundle.messageArmAtoms]))
  obtain ⟨sen, hsen⟩ := Cond.staticRefV Y.sentinel L.sentinelStatic L.statics hcS0 hiss (a (.isRef (.static Bundle.tN "SUPPRESSED_SENTINEL" Bundle.listD)) (by simp [Bundle.messageArmAtoms]))
  obtain ⟨ci198, i198, fB, hk198, hg198, ha198, hsB, -, hnB, htB, hffB⟩ := Cond.ownField (t := .object "java/lang/Object") Y.found L.cls (by decide +kernel) (a (.fieldLink Bundle.tN 198 Bundle.tN "backtrace" "Ljava/lang/Object;") (by simp [Bundle.messageArmAtoms])) (a (.lays Bundle.tN Bundle.tN "backtrace" "Ljava/lang/Object;") (by simp [Bundle.messageArmAtoms])) e.platform hpl
  obtain ⟨cellS, hcS', heS, -, hkeep⟩ := X.same.2.2.2.2.2 T.aS cellS0 hcS0
  have hcellS : W.heap[T.aS]? = some cellS := hcS'
  have hout' : ∀ i, (⟨T.aS, i⟩ : Loc) ∉ locs := fun i hmem => by
    have := hlocs _ hmem cellS0 hcS0
    rw [hiss] at this; cases this
  have hknownS : cellS.vm ≠ .unknown := by
    rw [heS]; intro hu
    rw [show cellS0.vm = .unknown from hu] at hiss
    cases hiss
  have hvU : cellS.slots[T.fUnassigned.slot]? = some u0.v := by rw [hkeep _ (hout' _)]; exact hu0
  have hvSen : cellS.slots[T.fSentinel.slot]? = some sen.v := by rw [hkeep _ (hout' _)]; exact hsen
  obtain ⟨iM, hffM⟩ := Y.msg
  obtain ⟨tyC, dC, hdC, hdnC⟩ := Cond.laysAt hfound hk Y.cause (a (.lays cls Bundle.tN "cause" "Ljava/lang/Throwable;") (by simp [Bundle.messageArmAtoms]))
  obtain ⟨tyS, dS, hdS, hdnS⟩ := Cond.laysAt hfound hk Y.stack (a (.lays cls Bundle.tN "stackTrace" Bundle.steD) (by simp [Bundle.messageArmAtoms]))
  obtain ⟨tyP, dP, hdP, hdnP⟩ := Cond.laysAt hfound hk Y.supp (a (.lays cls Bundle.tN "suppressedExceptions" Bundle.listD) (by simp [Bundle.messageArmAtoms]))
  obtain ⟨tyM, dM, hdM, hdnM⟩ := Cond.laysAt hfound hk hffM (a (.lays cls Bundle.tN "detailMessage" "Ljava/lang/String;") (by simp [Bundle.messageArmAtoms]))
  obtain ⟨tyB, dB, hdB, hdnB⟩ := Cond.laysAt hfound hk hffB (a (.lays cls Bundle.tN "backtrace" "Ljava/lang/Object;") (by simp [Bundle.messageArmAtoms]))
  have bC := Cond.laysApart hdB hdC hdnB hdnC (by rw [hnB, Y.causeName]; decide)
  have bS := Cond.laysApart hdB hdS hdnB hdnS (by rw [hnB, Y.stackName]; decide)
  have bP := Cond.laysApart hdB hdP hdnB hdnP (by rw [hnB, Y.suppName]; decide)
  have hbk : ((preparedCellV T.toThrowableT (freshCell P1.m.cls kX) (W.heap.size + 2) u0 sen).withEntry W.cur).slots[fB.slot]? = some .null := by
    have := fresh_default (c := P1.m.cls) tyB
    rw [htB] at this
    simpa [preparedCellV, Cell.setSlot, Cell.withEntry, Array.getElem?_setIfInBounds, bC, bS, bP, bC.symm, bS.symm, bP.symm, defaultValue] using this
  have tkC := Takes.of_laid (v := .ref (W.heap.size + 2)) hk hord tyC (by rw [Y.causeType]; rfl)
  have tkS := Takes.of_laid (v := u0.v) hk hord tyS (by rw [Y.stackType]; exact fits_refV_array _ u0)
  have tkP := Takes.of_laid (v := sen.v) hk hord tyP (by rw [Y.suppType]; exact fits_refV_object _ sen)
  have tkM := Takes.of_laid (v := .ref (W.heap.size + 1)) hk hord tyM (by rw [Y.msgType]; rfl)
  have hskip : SkipFacts T e.platform s (fun u => u) u0 ((preparedCellV T.toThrowableT (freshCell P1.m.cls kX) (W.heap.size + 2) u0 sen).withEntry W.cur) := ⟨{ ci198 := ci198, i198 := i198, fBack := fB }, ⟨hk198, hg198, ha198, hsB⟩, hbk, fun _ _ => rfl⟩
  obtain ⟨vm', X5, st, -⟩ := X.nativeThrowsMessageColdBareV hexec (nf := nf) hsize hnf T L Z LZ M LM Zs LZs P1 L1 Ps hL hlink1 hlink hsoe hoom hfound hk hinit hord hctor htext hlimit hheap (hfitv _) (hfitc _) hsel0 hselF hcellS hknownS hvU hvSen tkC tkS tkP tkM Y.objLocals hskip (fun _ _ hA hW _ hroom _ hrest => L.nativeOff p htr hA hW hroom hrest) (by omega) hRlocals (by omega) hRcells (by rw [hn4, hn6]; omega)
  obtain ⟨-, -, w3, -, -, -, -⟩ := withThrown_facts e.platform W Zs text P1.m.cls kX
  have ha : (W.heap.size + 2) < ((withThrown W Zs text P1.m.cls kX).setVm vm').heap.size := by show _ < (withThrown W Zs text P1.m.cls kX).heap.size; rw [w3]; omega
  obtain ⟨g₁, hfrM⟩ := X5.frames_eq
  have b1 : (bytesOf Zs.cB (stringToUtf16 text)).slots.size = (stringBytes (stringToUtf16 text)).size := by
    rw [(Cell.writeAll_facts _ _).2.2]; simp [bytes0]
  have b2 : (stringAt Zs.cS Zs.kS Zs.fv Zs.fc (stringToUtf16 text) W.heap.size).slots.size = 4 := by simp [string0, Cell.setSlot, hn4]
  have b3 : (freshCell P1.m.cls kX).slots.size = 6 := by simp [hn6]
  rw [b1, b2, b3] at X5
  have e9 : slots + (stringBytes (stringToUtf16 text)).size + 4 + 6 = slots + ((stringBytes (stringToUtf16 text)).size + 4 + 6) := by omega
  rw [e9] at X5
  have hfin2 : ∀ target, Steps p.tables e below ((((((withThrown W Zs text P1.m.cls kX).setVm vm').setCell (W.heap.size + 2) (plainBareV T.toThrowableT (freshCell P1.m.cls kX) (W.heap.size + 2) u0 sen (.ref (W.heap.size + 1)))).setTop g).pushFrame (.throwing (W.heap.size + 2)))) target → Steps p.tables e below (W.setFrames (.throwNew cls (some text) none :: .native nf :: .java g :: below)) target := by
    intro target ht
    refine st.trans ?_
    refine Steps.throwingLeavesNative ⟨X5.here.running, X5.here.runnable, X5.here.alone⟩ (State.cur_lt_of_frames hfrM) ⟨[.java g], rfl⟩ haw hlk ?_
    rw [State.pushFrame, State.frames_setTop _ hfrM, State.setTop_of_frames _ hfrM, State.setFrames_setFrames] at ht
    exact ht
  refine ⟨_, W.heap.size + 2, _, hfin2, X5.forget (fun y hy => ?_), heapAt_setCell_self _ ha, hfound, rfl⟩
  simp only [List.mem_cons, List.not_mem_nil, or_false] at hy
  have hge : s.heap.size ≤ W.heap.size := X.same.2.1
  rcases hy with rfl | rfl | rfl | rfl | rfl <;> exact Nat.le_trans hge (Nat.le_add_right _ 2)
theorem x_intp (x : Int) (h0 : -(10 ^ 10 : Int) < x) (h1 : x < 10 ^ 10) : (toString x).toList.length ≤ 11 := by
  show (Int.repr x).toList.length ≤ 11
  cases x with
  | ofNat m =>
    have h1' : (m : Int) < 10 ^ 10 := h1
    have := nat_print (n := m) (by omega)
    show (toString m).toList.length ≤ 11
    omega
  | negSucc m =>
    have h2' : -(10 ^ 10 : Int) < -((m : Int) + 1) := by simpa [Int.negSucc_eq] using h0
    have := nat_print (n := m.succ) (by omega)
    show ("-" ++ toString m.succ).toList.length ≤ 11
    rw [String.toList_append, List.length_append]
    have h3 : "-".toList.length = 1 := by decide
    omega
/-- a text of that sort is short, and is none that isn't modelled -/
theorem x_acok {w : String} (h : w.toList.length ≤ 200) : (("arraycopy: " ++ w) == notModelled) = false ∧ (stringBytes (stringToUtf16 ("arraycopy: " ++ w))).size ≤ 1000 := by
  constructor
  · rw [beq_eq_false_iff_ne]
    intro h
    have h2 := congrArg String.toList h
    rw [String.toList_append] at h2
    have h4 : notModelled.toList = '\u0000' :: " a message that is not modelled".toList := by decide
    have h5 : "arraycopy: ".toList = 'a' :: "rraycopy: ".toList := by decide
    rw [h4, h5] at h2
    simp at h2
  · have b1 := stringBytes_size_le (stringToUtf16 ("arraycopy: " ++ w))
    have b2 := utf16_size_le ("arraycopy: " ++ w)
    rw [String.toList_append, List.length_append] at b2
    have h5 : "arraycopy: ".toList.length = 11 := by decide
    omega
theorem x_kn (ty : FieldType) : (Native.java_lang_System.arraycopy.kindName ty).toList.length ≤ 12 := by
  cases ty <;> first | decide | (show ("object array").toList.length ≤ 12; decide)
theorem x_acarr {ty : FieldType} {n : Nat} (h : n < 2 ^ 31) : (toString (Native.java_lang_System.arraycopy.kindName ty) ++ toString "[" ++ toString n ++ toString "]" : String).toList.length ≤ 24 := by
  simp only [String.toList_append, List.length_append]
  have a1 : (toString "[").toList.length = 1 := by decide
  have a2 : (toString "]").toList.length = 1 := by decide
  have a3 := x_kn ty
  have a4 := nat_print (n := n) (by omega)
  have a5 : toString (Native.java_lang_System.arraycopy.kindName ty) = Native.java_lang_System.arraycopy.kindName ty := rfl
  rw [a5]
  omega
theorem x_acwp {e : Env} {s : State} {src dst : Addr} {srcPos destPos len : Int32} {cs cd : Cell} {ks kd : Class} {sComp dComp : ClassId} {sType dType : FieldType}
    (hs : s.heap[src]? = some cs) (hd : s.heap[dst]? = some cd) (hsobj : ∀ k, cs.vm ≠ .statics k) (hdobj : ∀ k, cd.vm ≠ .statics k)
    (hks : s.vm.classes[cs.cls]? = some ks) (hkd : s.vm.classes[cd.cls]? = some kd) (hsk : ks.kind = .array sComp sType) (hdk : kd.kind = .array dComp dType)
    (hty : ((refKind sType != refKind dType) || (!refKind sType && sType != dType)) = false) (hn0 : cs.slots.size < 2 ^ 31) (hn1 : cd.slots.size < 2 ^ 31) (h3 : ¬ len < 0)
    (hout : srcPos < 0 ∨ destPos < 0 ∨ srcPos.toInt + len.toInt > cs.slots.size ∨ destPos.toInt + len.toInt > cd.slots.size) :
    ∃ w : String, w.toList.length ≤ 200 ∧ ∀ (s' : State), s'.heap = s.heap → s'.vm = s.vm → ∀ E : CtlPost, (∀ acts', E (.throwNew "java/lang/ArrayIndexOutOfBoundsException" (some ("arraycopy: " ++ w))) acts' s') → wp (Native.java_lang_System.arraycopy.sem #[.ref src, .int srcPos, .ref dst, .int destPos, .int len]) (fun _ _ _ _ => False) E e false [] s' := by
  have i1 := Int32.toInt_lt srcPos
  have i2 := Int32.le_toInt srcPos
  have i3 := Int32.toInt_lt destPos
  have i4 := Int32.le_toInt destPos
  have i5 := Int32.toInt_lt len
  have i6 := Int32.le_toInt len
  have k0 := x_acarr (ty := sType) hn0
  have k1 := x_acarr (ty := dType) hn1
  have c1 : (toString "source index ").toList.length = 13 := by decide
  have c2 : (toString " out of bounds for ").toList.length = 19 := by decide
  have c3 : (toString "destination index ").toList.length = 18 := by decide
  have c4 : (toString "last source index ").toList.length = 18 := by decide
  have c5 : (toString "last destination index ").toList.length = 23 := by decide
  by_cases h1 : srcPos < 0
  · refine ⟨(toString "source index " ++ toString srcPos ++ toString " out of bounds for " ++ toString (toString (Native.java_lang_System.arraycopy.kindName sType) ++ toString "[" ++ toString cs.slots.size ++ toString "]" : String)), ?_, ?_⟩
    · have q1 := int32_print srcPos
      rw [String.toList_append, String.toList_append, String.toList_append, List.length_append, List.length_append, List.length_append]
      have q2 : toString (toString (Native.java_lang_System.arraycopy.kindName sType) ++ toString "[" ++ toString cs.slots.size ++ toString "]" : String) = (toString (Native.java_lang_System.arraycopy.kindName sType) ++ toString "[" ++ toString cs.slots.size ++ toString "]" : String) := rfl
      rw [q2]
      omega
    · intro s' e1 e2 E hE
      rw [Native.java_lang_System.arraycopy.sem_refs]
      unfold Native.java_lang_System.arraycopy.behind
      simp only [wp_bind', W.classOf, W.theClass, e1, e2, hs, hd, hks, hkd, Option.some.injEq, exists_eq_left', hsk, hdk]
      refine ⟨hsobj, hdobj, ?_⟩
      unfold refKind at hty
      simp only [hty, Bool.false_eq_true, if_false]
      simp only [wp_bind', W.sizeOf, e1, e2, hs, hd, Option.some.injEq, exists_eq_left', h1, if_true]
      simp only [wp_bind', W.mark, W.throwNew]
      exact hE _
  · by_cases h2 : destPos < 0
    · refine ⟨(toString "destination index " ++ toString destPos ++ toString " out of bounds for " ++ toString (toString (Native.java_lang_System.arraycopy.kindName dType) ++ toString "[" ++ toString cd.slots.size ++ toString "]" : String)), ?_, ?_⟩
      · have q1 := int32_print destPos
        rw [String.toList_append, String.toList_append, String.toList_append, List.length_append, List.length_append, List.length_append]
        have q2 : toString (toString (Native.java_lang_System.arraycopy.kindName dType) ++ toString "[" ++ toString cd.slots.size ++ toString "]" : String) = (toString (Native.java_lang_System.arraycopy.kindName dType) ++ toString "[" ++ toString cd.slots.size ++ toString "]" : String) := rfl
        rw [q2]
        omega
      · intro s' e1 e2 E hE
        rw [Native.java_lang_System.arraycopy.sem_refs]
        unfold Native.java_lang_System.arraycopy.behind
        simp only [wp_bind', W.classOf, W.theClass, e1, e2, hs, hd, hks, hkd, Option.some.injEq, exists_eq_left', hsk, hdk]
        refine ⟨hsobj, hdobj, ?_⟩
        unfold refKind at hty
        simp only [hty, Bool.false_eq_true, if_false]
        simp only [wp_bind', W.sizeOf, e1, e2, hs, hd, Option.some.injEq, exists_eq_left', h1, h2, if_true, if_false]
        simp only [wp_bind', W.mark, W.throwNew]
        exact hE _
    · by_cases h4 : srcPos.toInt + len.toInt > cs.slots.size
      · refine ⟨(toString "last source index " ++ toString (srcPos.toInt + len.toInt) ++ toString " out of bounds for " ++ toString (toString (Native.java_lang_System.arraycopy.kindName sType) ++ toString "[" ++ toString cs.slots.size ++ toString "]" : String)), ?_, ?_⟩
        · have q1 := x_intp (srcPos.toInt + len.toInt) (by omega) (by omega)
          rw [String.toList_append, String.toList_append, String.toList_append, List.length_append, List.length_append, List.length_append]
          have q2 : toString (toString (Native.java_lang_System.arraycopy.kindName sType) ++ toString "[" ++ toString cs.slots.size ++ toString "]" : String) = (toString (Native.java_lang_System.arraycopy.kindName sType) ++ toString "[" ++ toString cs.slots.size ++ toString "]" : String) := rfl
          rw [q2]
          omega
        · intro s' e1 e2 E hE
          rw [Native.java_lang_System.arraycopy.sem_refs]
          unfold Native.java_lang_System.arraycopy.behind
          simp only [wp_bind', W.classOf, W.theClass, e1, e2, hs, hd, hks, hkd, Option.some.injEq, exists_eq_left', hsk, hdk]
          refine ⟨hsobj, hdobj, ?_⟩
          unfold refKind at hty
          simp only [hty, Bool.false_eq_true, if_false]
          simp only [wp_bind', W.sizeOf, e1, e2, hs, hd, Option.some.injEq, exists_eq_left', h1, h2, h3, h4, if_true, if_false]
          simp only [wp_bind', W.mark, W.throwNew]
          exact hE _
      · have h5 : destPos.toInt + len.toInt > cd.slots.size := by
          rcases hout with h | h | h | h
          · exact absurd h h1
          · exact absurd h h2
          · exact absurd h h4
          · exact h
        refine ⟨(toString "last destination index " ++ toString (destPos.toInt + len.toInt) ++ toString " out of bounds for " ++ toString (toString (Native.java_lang_System.arraycopy.kindName dType) ++ toString "[" ++ toString cd.slots.size ++ toString "]" : String)), ?_, ?_⟩
        · have q1 := x_intp (destPos.toInt + len.toInt) (by omega) (by omega)
          rw [String.toList_append, String.toList_append, String.toList_append, List.length_append, List.length_append, List.length_append]
          have q2 : toString (toString (Native.java_lang_System.arraycopy.kindName dType) ++ toString "[" ++ toString cd.slots.size ++ toString "]" : String) = (toString (Native.java_lang_System.arraycopy.kindName dType) ++ toString "[" ++ toString cd.slots.size ++ toString "]" : String) := rfl
          rw [q2]
          omega
        · intro s' e1 e2 E hE
          rw [Native.java_lang_System.arraycopy.sem_refs]
          unfold Native.java_lang_System.arraycopy.behind
          simp only [wp_bind', W.classOf, W.theClass, e1, e2, hs, hd, hks, hkd, Option.some.injEq, exists_eq_left', hsk, hdk]
          refine ⟨hsobj, hdobj, ?_⟩
          unfold refKind at hty
          simp only [hty, Bool.false_eq_true, if_false]
          simp only [wp_bind', W.sizeOf, e1, e2, hs, hd, Option.some.injEq, exists_eq_left', h1, h2, h3, h4, h5, if_true, if_false]
          simp only [wp_bind', W.mark, W.throwNew]
          exact hE _
/-- the copy may be out of range -/
def xinr (sp dp n : Int32) (n0 n1 : Nat) : Prop := ¬ sp < 0 ∧ ¬ dp < 0 ∧ sp.toNatClampNeg + n.toNatClampNeg ≤ n0 ∧ dp.toNatClampNeg + n.toNatClampNeg ≤ n1
def xcpTi (C : XH) (a0 : Nat) (sp : Int32) (a : Nat) (dp n : Int32) (K : XH → Prop) (E : Nat → Prop) : Prop := ∃ (t n0 n1 : Nat) (f g : Nat → Int32), (t = 0 ∨ t = 2 ∨ t = 3) ∧ C a0 = some (.inl (t, n0, .inl f)) ∧ C a = some (.inl (t, n1, .inl g)) ∧ ¬ n < 0 ∧ (xinr sp dp n n0 n1 → (∀ i, i < n.toNatClampNeg → fits (aTy t) (.int (f (sp.toNatClampNeg + i))) = true) ∧ K (xset C a (.inl (t, n1, .inl (va_cpy f g sp.toNatClampNeg dp.toNatClampNeg n.toNatClampNeg))))) ∧ (¬ xinr sp dp n n0 n1 → (n0 < 2 ^ 31 ∧ n1 < 2 ^ 31) ∧ ∀ q, E q)
def xcpTl (C : XH) (a0 : Nat) (sp : Int32) (a : Nat) (dp n : Int32) (K : XH → Prop) (E : Nat → Prop) : Prop := ∃ (n0 n1 : Nat) (f g : Nat → Int64), C a0 = some (.inl (1, n0, .inr (.inl f))) ∧ C a = some (.inl (1, n1, .inr (.inl g))) ∧ ¬ n < 0 ∧ (xinr sp dp n n0 n1 → K (xset C a (.inl (1, n1, .inr (.inl (va_cpy f g sp.toNatClampNeg dp.toNatClampNeg n.toNatClampNeg)))))) ∧ (¬ xinr sp dp n n0 n1 → (n0 < 2 ^ 31 ∧ n1 < 2 ^ 31) ∧ ∀ q, E q)
def xcpT (C : XH) (a0 : Nat) (sp : Int32) (a : Nat) (dp n : Int32) (K : XH → Prop) (E : Nat → Prop) : Prop := xcpTi C a0 sp a dp n K E ∨ xcpTl C a0 sp a dp n K E
section XAC
variable {p : Program} {l : Launch} {e : Env} {R : Room} {s : State} {m : MethodId} {args : Array Value} {below : List Frame} {meth : Method} {c : Code} {H : Heap} {locs : List Loc} {cells slots : Nat} {Q : State → Prop}
variable {own : String} {cc : ByteArray} {nL : Nat} {ret : Option FieldType} {pc : Nat} {ls : Array Slot} {rest : List Value} {D : va_G} {dT : Nat → ClassId} {adK adV : Nat → Nat} {A : Nat → Prop} {C : XH} {a : Nat}
theorem x_acOut {index t : Nat} {ty : FieldType} {a0 : Nat} {n0 n1 : Nat} {V0 V1 : Nat → Value} {x0 x1 : vp_A} {E : Nat → Prop} {sp dp n : Int32} (X : xX p s m args meth c own cc nL ret) (hK : va_K D aCl (aT dT) s) (hG : xG adK adV A s s.heap) (hI : xI D dT A s.heap C H locs) (ht : (aT dT)[t]? = some (dT t, ty)) (g0 : C a0 = some (.inl (t, x0))) (g1 : C a = some (.inl (t, x1))) (e0 : ∀ cA, vp_cell cA x0 = arrV cA n0 V0) (e1 : ∀ cA, vp_cell cA x1 = arrV cA n1 V1)
    (hn : ¬ n < 0) (hn0 : n0 < 2 ^ 31) (hn1 : n1 < 2 ^ 31) (hout : ¬ xinr sp dp n n0 n1)
    (hlink : Cond.methodLink own index arraycopyName ∈ lw_all) (hl0 : l.stackTraces = false) (hsz : ls.size = nL) (hq : ∀ q, E q)
    (hRf : 9 ≤ R.frames) (hRl : (rest.map fun v => v.category).sum + 10240 ≤ R.locals) (hc : cells + 3 ≤ R.cells) (hs : slots + 1010 ≤ R.slots) (hdg : decode cc pc = .ok (.invokestatic index, 3))
    (kE : ∀ (ce : Cell) (q : Nat) (H1 : Heap), E q → xI D dT A s.heap C H1 locs → H1[q]? = some ce → ce.vm = .none → s.vm.findClass "java/lang/ArrayIndexOutOfBoundsException" = some ce.cls → vx_W p l e R s m args below meth c H1 locs (cells + 3) (slots + 1010) Q (F0 m pc ls rest) q) : W p l e R s m args below meth c H locs cells slots Q (F0 m pc ls (.int n :: .int dp :: .ref a :: .int sp :: .ref a0 :: rest)) := by
  intro T hT X0
  have hc0 : H[a0]? = some (vp_cell (dT t) x0) := hI.1 a0 _ g0
  have hc1 : H[a]? = some (vp_cell (dT t) x1) := hI.1 a _ g1
  rw [e0] at hc0
  rw [e1] at hc1
  obtain ⟨-, k0, hk0, cm0, hkk0⟩ := (hK.2 t _ ht).1 n0 V0
  obtain ⟨-, k1, hk1, cm1, hkk1⟩ := (hK.2 t _ ht).1 n1 V1
  have hout' : sp < 0 ∨ dp < 0 ∨ sp.toInt + n.toInt > (n0 : Int) ∨ dp.toInt + n.toInt > (n1 : Int) := by
    by_cases h1 : sp < 0
    · exact Or.inl h1
    · by_cases h2 : dp < 0
      · exact Or.inr (Or.inl h2)
      · refine Or.inr (Or.inr ?_)
        rw [x_nn h1, x_nn h2, x_nn hn]
        by_cases h3 : sp.toNatClampNeg + n.toNatClampNeg ≤ n0
        · refine Or.inr ?_
          by_cases h4 : dp.toNatClampNeg + n.toNatClampNeg ≤ n1
          · exact absurd ⟨h1, h2, h3, h4⟩ hout
          · omega
        · exact Or.inl (by omega)
  have hts := X.2.2.2.2.1
  obtain ⟨r, kS, methS, hnS, hmS, hkS, N⟩ := NativeOf.of_static (hts _ q625) (hts _ q624) (ps := [.object "java/lang/Object", .int, .object "java/lang/Object", .int, .int]) (ret := none) (by decide +kernel)
  have hinitS : kS.init = .initialized := Cond.initialized_spec (findClass_of_methodNamed hnS) hkS (hts _ q115)
  obtain ⟨vm', X', step⟩ := X0.invokestatic X.1 X.2.2.2.2.2.1 (hts _ hlink) hnS hmS N.static hkS hinitS (by decide) (g := F0 m pc ls (.int n :: .int dp :: .ref a :: .int sp :: .ref a0 :: rest)) rfl (argsL := [.ref a0, .int sp, .ref a, .int dp, .int n]) (rest := rest) (by rw [N.sig]; rfl) rfl (by rw [X.2.1]; exact hdg)
  have hA' : s.vm.Alike vm' := X'.warmed.alike
  obtain ⟨kS', N'⟩ := N.alike hA'
  obtain ⟨ks', hks', hes⟩ := hA'.2.2 _ _ hk0
  obtain ⟨kd', hkd', hed⟩ := hA'.2.2 _ _ hk1
  have hWh : (T.setVm vm').heap = H := hT
  obtain ⟨w, hw1, hw2⟩ := x_acwp (e := e) (s := T.setVm vm') (src := a0) (dst := a) (srcPos := sp) (destPos := dp) (len := n) (cs := arrV (dT t) n0 V0) (cd := arrV (dT t) n1 V1) (ks := ks') (kd := kd') (by rw [hWh]; exact hc0) (by rw [hWh]; exact hc1) (fun _ h => by cases h) (fun _ h => by cases h) hks' hkd' (by rw [hes]; exact hkk0) (by rw [hed]; exact hkk1) (by cases h : refKind ty <;> simp) (by rw [arrV_size]; exact hn0) (by rw [arrV_size]; exact hn1) hn (by rw [arrV_size, arrV_size]; exact hout')
  obtain ⟨ht1, ht2⟩ := x_acok hw1
  have htr : e.platform.stackTraces = false := (show e.platform.stackTraces = l.stackTraces by rw [X'.admits.platform]).trans hl0
  have Y := vx_rebase X' (R' := { frames := R.frames, locals := R.locals, cells := 3, slots := 1010 }) (Nat.le_refl _) (Nat.le_refl _) hc hs
  have hW0 : s.WarmedH (((T.setVm vm').setVm s.vm).setFrames (.invoking m args :: below)).vm := State.WarmedH.refl s
  have hhp : (((T.setVm vm').setVm s.vm).setFrames (.invoking m args :: below)).heap = H := hT
  have hat' : ∀ w ∈ vx_atM "java/lang/ArrayIndexOutOfBoundsException" ["java/lang/IndexOutOfBoundsException", "java/lang/RuntimeException", "java/lang/Exception"], w.before args (((T.setVm vm').setVm s.vm).setFrames (.invoking m args :: below)) = true := fun w hw => vx_ot_at hW0 rfl (x_vmA_ot w hw) (x_atA (A := A) hts hG.1 w hw)
  have hU' : vx_Zq Bundle.tN "UNASSIGNED_STACK" Bundle.steD A (((T.setVm vm').setVm s.vm).setFrames (.invoking m args :: below)) (((T.setVm vm').setVm s.vm).setFrames (.invoking m args :: below)).heap := by rw [hhp]; exact vx_Zq.moved hW0.alike (hG.2.1.kept hI.2.2.2.1)
  have hN' : vx_Zq Bundle.tN "SUPPRESSED_SENTINEL" Bundle.listD A (((T.setVm vm').setVm s.vm).setFrames (.invoking m args :: below)) (((T.setVm vm').setVm s.vm).setFrames (.invoking m args :: below)).heap := by rw [hhp]; exact vx_Zq.moved hW0.alike (hG.2.2.1.kept hI.2.2.2.1)
  obtain ⟨S, q, ce, st, Z, hce, hcl', hv⟩ := x_natAt (nf := { method := r, args := #[.ref a0, .int sp, .ref a, .int dp, .int n], locked := none }) Y X.1 htr (cls := "java/lang/ArrayIndexOutOfBoundsException") (names := ["java/lang/IndexOutOfBoundsException", "java/lang/RuntimeException", "java/lang/Exception"]) (text := "arraycopy: " ++ w) (by decide +kernel) (by decide +kernel) (by decide +kernel) (by decide +kernel) (vx_own hat' (vx_isRefq hU'.1) (vx_isRefq hN'.1) hU'.2.word hN'.2.word) (fun x hx => nomatch hx) ht1
    (by rw [Launch.admits_arrayLengthLimit X'.admits]; omega) (by rw [Launch.admits_maxHeapBytes X'.admits]; simp only [componentBytes]; omega)
    (g := F0 m pc ls rest) rfl rfl rfl rfl (hsz.trans X.2.2.2.1.symm) (by show 3 + 5 < R.frames; omega) (by show 2 * 0 + (rest.map fun v => v.category).sum + 10240 ≤ R.locals; omega) (by decide) (by show 0 + 3 ≤ 3; omega) (by show 0 + (_ + 4 + 6) ≤ 1010; omega) X.2.2.2.2.2.2
  obtain ⟨f1, f2⟩ := vx_frame Z.same
  have f1' : H.size ≤ S.heap.size := by rw [← hT]; exact f1
  have f2' : ∀ q : Nat, q < H.size → S.heap[q]? = H[q]? := fun q hq => by
    rw [← hT]
    exact f2 q (by rw [← hT] at hq; exact hq) (fun z hz => nomatch hz)
  have X5 := vx_back9 X' Y Z
  have X6 : Stand p l e R s m args below meth c S locs (cells + 3) (slots + 1010) := { X5 with same := X5.same.mono (by omega) (by omega) }
  have hIS : xI D dT A s.heap C S.heap locs := hI.more f2' ⟨Nat.le_trans hI.2.2.1 f1', fun q h1 h2 => (f2' q (Nat.lt_of_lt_of_le h1 hI.2.2.1)).trans (hI.2.2.2.1 q h1 h2), hI.2.2.2.2⟩
  obtain ⟨t9, a1, b1⟩ := kE ce q S.heap (hq q) hIS hce hv hcl' S rfl X6
  refine ⟨t9, step t9 fun acts => ?_, b1⟩
  obtain ⟨g₀, hfr⟩ := X'.frames_eq
  have hseen : seenByNative methS #[.ref a0, .int sp, .ref a, .int dp, .int n] = #[.ref a0, .int sp, .ref a, .int dp, .int n] := by
    simp [seenByNative, N.static, N.sig, narrow]
  have hU9 : ((T.setVm vm').setTop (F0 m pc ls rest)).pushFrame (.native { method := r, args := seenByNative methS #[.ref a0, .int sp, .ref a, .int dp, .int n], locked := none }) = (T.setVm vm').setFrames (.native { method := r, args := seenByNative methS #[.ref a0, .int sp, .ref a, .int dp, .int n], locked := none } :: .java (F0 m pc ls rest) :: below) := by
    rw [State.pushFrame, State.frames_setTop _ hfr, State.setTop_of_frames _ hfr, State.setFrames_setFrames]
  have hcurT : (T.setVm vm').cur < (T.setVm vm').threads.size := State.cur_lt_of_frames hfr
  refine Steps.nativeThrowsNote (g := F0 m pc ls rest) (row := arraycopyRow) (cls := "java/lang/ArrayIndexOutOfBoundsException") (msg := some ("arraycopy: " ++ w)) (T := id) X'.here acts N'.cls N'.meth N'.boot N'.native N'.noCode N'.noLock
    (by rw [N'.className, N'.name, N'.desc]; exact arraycopy_row p)
    (X'.notFull (g := F0 m pc ls rest) (hsz.trans X.2.2.2.1.symm) (vars := nativeFrameWords "java/lang/System" "arraycopy" 5) (by omega) (by
      have h9 : nativeFrameWords "java/lang/System" "arraycopy" 5 + 11 ≤ 10240 := by decide
      show 2 * 0 + (rest.map fun v => v.category).sum + _ ≤ _
      omega) |> fun h => by rw [N'.className, N'.name]; exact h) ?_ ?_
  · intro E hE
    rw [hU9] at hE ⊢
    rw [hseen] at hE ⊢
    rw [arraycopyRow_sem]
    exact hw2 ((T.setVm vm').setFrames _) rfl rfl E hE
  · show Steps p.tables e below ((((T.setVm vm').setTop (F0 m pc ls rest)).pushFrame (.native { method := r, args := seenByNative methS #[.ref a0, .int sp, .ref a, .int dp, .int n], locked := none })).pushFrame (.throwNew _ _ none)) t9
    rw [hU9, hseen, State.pushFrame, State.frames_setFrames _ hcurT, State.setFrames_setFrames]
    exact st t9 a1
theorem x_cpT {index : Nat} {a0 : Nat} {K : XH → Prop} {E : Nat → Prop} {sp dp n : Int32} (X : xX p s m args meth c own cc nL ret) (hK : va_K D aCl (aT dT) s) (hG : xG adK adV A s s.heap) (hI : xI D dT A s.heap C H locs) (hlink : Cond.methodLink own index arraycopyName ∈ lw_all) (h : xcpT C a0 sp a dp n K E) (hl0 : l.stackTraces = false) (hsz : ls.size = nL)
    (hRf : 9 ≤ R.frames) (hRl : (rest.map fun v => v.category).sum + 10240 ≤ R.locals) (hc : cells + 3 ≤ R.cells) (hs : slots + 1010 ≤ R.slots) (hdg : decode cc pc = .ok (.invokestatic index, 3))
    (kE : ∀ (ce : Cell) (q : Nat) (H1 : Heap), E q → xI D dT A s.heap C H1 locs → H1[q]? = some ce → ce.vm = .none → s.vm.findClass "java/lang/ArrayIndexOutOfBoundsException" = some ce.cls → vx_W p l e R s m args below meth c H1 locs (cells + 3) (slots + 1010) Q (F0 m pc ls rest) q)
    (kk : ∀ (C' : XH) (H1 : Heap) (locs1 : List Loc), K C' → xI D dT A s.heap C' H1 locs1 → W p l e R s m args below meth c H1 locs1 cells slots Q (F0 m (pc + 3) ls rest)) : W p l e R s m args below meth c H locs cells slots Q (F0 m pc ls (.int n :: .int dp :: .ref a :: .int sp :: .ref a0 :: rest)) := by
  have h9 : nativeFrameWords "java/lang/System" "arraycopy" 5 + 11 ≤ 10240 := by decide
  rcases h with ⟨t, n0, n1, f, g, ht, g0, g1, hn, h1, h2⟩ | ⟨n0, n1, f, g, g0, g1, hn, h1, h2⟩
  · by_cases hr : xinr sp dp n n0 n1
    · obtain ⟨h3, h4⟩ := h1 hr
      exact x_cpi t ht X hK hI hlink ⟨n0, n1, f, g, g0, g1, hr.1, hr.2.1, hn, hr.2.2.1, hr.2.2.2, h3, h4⟩ hsz (by omega) (by omega) hdg kk
    · obtain ⟨⟨h3, h4⟩, h5⟩ := h2 hr
      have hty : (aT dT)[t]? = some (dT t, aTy t) := by rcases ht with rfl | rfl | rfl <;> rfl
      exact x_acOut (V0 := fun j => .int (f j)) (V1 := fun j => .int (g j)) X hK hG hI hty g0 g1 (fun _ => vp_cell_i _ _ _) (fun _ => vp_cell_i _ _ _) hn h3 h4 hr hlink hl0 hsz h5 hRf hRl hc hs hdg kE
  · by_cases hr : xinr sp dp n n0 n1
    · exact x_cpl X hK hI hlink ⟨n0, n1, f, g, g0, g1, hr.1, hr.2.1, hn, hr.2.2.1, hr.2.2.2, h1 hr⟩ hsz (by omega) (by omega) hdg kk
    · obtain ⟨⟨h3, h4⟩, h5⟩ := h2 hr
      exact x_acOut (t := 1) (ty := .long) (V0 := fun j => .long (f j)) (V1 := fun j => .long (g j)) X hK hG hI rfl g0 g1 (fun _ => rfl) (fun _ => rfl) hn h3 h4 hr hlink hl0 hsz h5 hRf hRl hc hs hdg kE
end XAC
