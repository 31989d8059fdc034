/-! casts that may fail -/
set_option maxRecDepth 100000
theorem x_fc {vm : Vm} {name : String} {c : ClassId} (h : vm.findClass name = some c) : ∃ k, vm.classes[c]? = some k ∧ k.name = name ∧ k.hidden = none ∧ k.loader = none := by
  obtain ⟨hlt, hp, _⟩ := Array.findIdx?_eq_some_iff_getElem.mp h
  refine ⟨vm.classes[c], by simp [hlt], ?_⟩
  simp only [Bool.and_eq_true, beq_iff_eq, Option.isNone_iff_eq_none] at hp
  exact ⟨hp.1.1.1, hp.1.1.2, hp.2⟩
theorem x_modOf {vm : Vm} {k : Class} (hm : xMod vm) (hl : k.loader = none) (hp : packageOf k.name = "") : vm.moduleOf k = none ∨ ∃ mo, vm.moduleOf k = some mo ∧ mo.name = "java.base" := by
  unfold Vm.moduleOf
  split
  · cases h : vm.modules.find? (fun x => x.name == "java.base") with
    | none => exact Or.inl rfl
    | some mo => exact Or.inr ⟨mo, rfl, by simpa using List.find?_some h⟩
  · cases h : vm.modules.find? (fun m => m.loader == k.loader && m.packages.contains (packageOf k.name)) with
    | none => exact Or.inl rfl
    | some mo =>
      refine Or.inr ⟨mo, rfl, ?_⟩
      have h1 := List.find?_some h
      have h2 := List.all_eq_true.mp hm mo (List.mem_of_find?_eq_some h)
      rw [hl, hp] at h1
      simp only [Bool.and_eq_true, beq_iff_eq] at h1
      simp only [h1.1, Option.isSome_none, Bool.false_or, List.any_cons, h1.2, Bool.true_or, Bool.not_true, Bool.or_false, beq_iff_eq] at h2
      exact h2
theorem x_home {vm : Vm} {k : Class} (hm : xMod vm) (hl : k.loader = none) (hp : packageOf k.name = "") : (vm.home k).toList.length ≤ 38 := by
  unfold Vm.home
  rw [hl]
  rcases x_modOf hm hl hp with h | ⟨mo, h, hn⟩
  · rw [h]
    show ("unnamed module" ++ " of loader " ++ "'bootstrap'").toList.length ≤ 38
    decide +kernel
  · rw [h]
    show ("module " ++ mo.name ++ " of loader " ++ "'bootstrap'").toList.length ≤ 38
    rw [hn]
    decide +kernel
theorem x_homes {vm : Vm} {a b : Class} (hm : xMod vm) (hla : a.loader = none) (hpa : packageOf a.name = "") (hlb : b.loader = none) (hpb : packageOf b.name = "") (ha : a.shown.toList.length ≤ 24) (hb : b.shown.toList.length ≤ 24) : (vm.homes a b).toList.length ≤ 140 := by
  have h1 := x_home hm hla hpa
  have h2 := x_home hm hlb hpb
  unfold Vm.homes
  split
  · show (toString a.shown ++ toString " and " ++ toString b.shown ++ toString " are in " ++ toString (vm.home a)).toList.length ≤ 140
    simp only [String.toList_append, List.length_append]
    have a1 : (toString " and ").toList.length = 5 := by decide
    have a2 : (toString " are in ").toList.length = 8 := by decide
    have a3 : (toString a.shown) = a.shown := rfl
    have a4 : (toString b.shown) = b.shown := rfl
    have a5 : (toString (vm.home a)) = vm.home a := rfl
    rw [a3, a4, a5]
    omega
  · show (toString a.shown ++ toString " is in " ++ toString (vm.home a) ++ toString "; " ++ toString b.shown ++ toString " is in " ++ toString (vm.home b)).toList.length ≤ 140
    simp only [String.toList_append, List.length_append]
    have a1 : (toString " is in ").toList.length = 7 := by decide
    have a2 : (toString "; ").toList.length = 2 := by decide
    have a3 : (toString a.shown) = a.shown := rfl
    have a4 : (toString b.shown) = b.shown := rfl
    have a5 : (toString (vm.home a)) = vm.home a := rfl
    have a6 : (toString (vm.home b)) = vm.home b := rfl
    rw [a3, a4, a5, a6]
    omega
theorem x_ctxt {vm : Vm} {a b : Class} (hm : xMod vm) (hla : a.loader = none) (hpa : packageOf a.name = "") (hlb : b.loader = none) (hpb : packageOf b.name = "") (ha : a.shown.toList.length ≤ 24) (hb : b.shown.toList.length ≤ 24) : (checkcast.message vm a b == notModelled) = false ∧ (stringBytes (stringToUtf16 (checkcast.message vm a b))).size ≤ 1000 := by
  have e : checkcast.message vm a b = (toString "class " ++ toString a.shown ++ toString " cannot be cast to class " ++ toString b.shown ++ toString " (" ++ toString (vm.homes a b) ++ toString ")") := rfl
  have h3 := x_homes hm hla hpa hlb hpb ha hb
  have a3 : (toString a.shown) = a.shown := rfl
  have a4 : (toString b.shown) = b.shown := rfl
  have a5 : (toString (vm.homes a b)) = vm.homes a b := rfl
  constructor
  · rw [beq_eq_false_iff_ne]
    intro h
    have h2 := congrArg String.toList h
    rw [e] at h2
    have h5 : (toString "class " ++ toString a.shown ++ toString " cannot be cast to class " ++ toString b.shown ++ toString " (" ++ toString (vm.homes a b) ++ toString ")").toList = 'c' :: ("lass ".toList ++ a.shown.toList ++ " cannot be cast to class ".toList ++ b.shown.toList ++ " (".toList ++ (vm.homes a b).toList ++ ")".toList) := by
      rw [a3, a4, a5]
      simp only [String.toList_append]
      rfl
    rw [h5] at h2
    have h4 : notModelled.toList = '\u0000' :: " a message that is not modelled".toList := by decide
    rw [h4] at h2
    simp at h2
  · have b1 := stringBytes_size_le (stringToUtf16 (checkcast.message vm a b))
    have b2 := utf16_size_le (checkcast.message vm a b)
    have b3 : (checkcast.message vm a b).toList.length ≤ 250 := by
      rw [e, a3, a4, a5]
      simp only [String.toList_append, List.length_append]
      have c1 : (toString "class ").toList.length = 6 := by decide
      have c2 : (toString " cannot be cast to class ").toList.length = 25 := by decide
      have c3 : (toString " (").toList.length = 2 := by decide
      have c4 : (toString ")").toList.length = 1 := by decide
      omega
    omega
def aNm (ci : Nat) : String := ((aCl[ci]?).map (fun w => w.1)).getD ""
def xisX (l : List Nat) : Nat → Bool := fun c => l.any (fun d => Nat.beq c d)
def xcastT (C : XH) (good : List Nat) (o : Option Nat) (K : Prop) (E : Nat → Prop) : Prop := (o = none → K) ∧ ∀ q, o = some q → obd (xcl C q) (fun ci => (xisX good ci = true → K) ∧ (xisX good ci = false → (xisH ci || xisR ci) = true ∧ ∀ b, E b))
/-- what the lists say of a cast to T that lets the classes of a list pass -/
def xgd (good : List Nat) (T : String) : Bool := (List.range 22).all (fun ci => (!(xisX good ci) || (aNm ci == T) || xNwC.contains (aNm ci, T)) && (xisX good ci || !(xisH ci || xisR ci) || xNc.contains (aNm ci, T)))
theorem xgd_spec {good : List Nat} {T : String} (h : xgd good T = true) {ci : Nat} (hc : ci < 22) : (xisX good ci = true → aNm ci = T ∨ (aNm ci, T) ∈ xNwC) ∧ (xisX good ci = false → (xisH ci || xisR ci) = true → (aNm ci, T) ∈ xNc) := by
  have h1 := List.all_eq_true.mp h ci (List.mem_range.mpr hc)
  simp only [Bool.and_eq_true, Bool.or_eq_true, Bool.not_eq_true', beq_iff_eq, List.contains_iff_mem] at h1
  constructor
  · intro hg
    rcases h1.1 with (h | h) | h
    · rw [hg] at h; cases h
    · exact Or.inl h
    · exact Or.inr h
  · intro hg hr
    rcases h1.2 with (h | h) | h
    · rw [hg] at h; cases h
    · rw [hr] at h; cases h
    · exact h
theorem x_nms : (List.range 22).all (fun ci => !(xisH ci || xisR ci) || (packageOf (aNm ci) == "" && Nat.ble (dotted (aNm ci)).toList.length 24)) = true := by decide +kernel
section XCA
variable {p : Program} {l : Launch} {e : Env} {R : Room} {s : State} {m : MethodId} {args : Array Value} {below : List Frame} {meth : Method} {c : Code} {H : Heap} {locs : List Loc} {cells slots : Nat} {Q : State → Prop}
variable {own : String} {cc : ByteArray} {nL : Nat} {ret : Option FieldType} {pc : Nat} {ls : Array Slot} {rest : List Value} {D : va_G} {dT : Nat → ClassId} {adK adV : Nat → Nat} {A : Nat → Prop} {C : XH} {a : Nat}
/-- checkcast that doesn't come through -/
theorem x_castNo {T : State} (X : Stand p l e R s m args below meth c T locs cells slots) (hexec : p.tables.exec = Jvm.exec)
    {own name : String} {index : Nat} (hown : s.vm.findClass own = some m.cls) (hlink : (Cond.classLink own index name).before args s = true)
    {a : Addr} {cell : Cell} {cT : ClassId} {ks : Class} (hcell : T.heap[a]? = some cell) (hobj : ∀ k, cell.vm ≠ .statics k) (hks : s.vm.classes[cell.cls]? = some ks)
    (hcT : s.vm.findClass name = some cT) (hasg : s.vm.assignable cell.cls cT = false)
    {g : JFrame} (hg : g.method = m) {rest : List Value} (hstack : g.stack = .ref a :: rest) (hdg : decode c.code g.pc = .ok (.checkcast index, 3)) :
    ∃ (vm' : Vm) (ks' kt' : Class) (kt : Class), s.vm.Alike vm' ∧ s.vm.classes[cT]? = some kt ∧ ks' = { ks with resolved := ks'.resolved, nestHost := ks'.nestHost, nestHostError := ks'.nestHostError } ∧ kt' = { kt with resolved := kt'.resolved, nestHost := kt'.nestHost, nestHostError := kt'.nestHostError } ∧ Stand p l e R s m args below meth c (T.setVm vm') locs cells slots ∧
      ∀ target, Steps p.tables e below (((T.setVm vm').setTop g).pushFrame (.throwNew "java/lang/ClassCastException" (some (checkcast.message vm' ks' kt')) none)) target → Steps p.tables e below (T.setTop g) target := by
  have hpl : e.platform.magicAccessors = ({} : Platform).magicAccessors := by rw [X.admits.platform]
  obtain ⟨c', hc', hcl⟩ := Cond.classLink_spec hown hlink e.platform hpl
  cases hcT.symm.trans hc'
  obtain ⟨dk, _, _, kt, hd, _, _, _, _, hkt, _, hopen⟩ := hcl.here
  have hcl₀ := X.warmed.classLinks hcl
  have hW' : s.WarmedH (T.vm.noted m.cls index (.cls cT)) := X.warmed.noted hd hopen (State.rightAt_cls hcl)
  obtain ⟨ks', hks', hks2⟩ := hW'.alike.2.2 _ _ hks
  obtain ⟨kt', hkt', hkt2⟩ := hW'.alike.2.2 _ _ hkt
  refine ⟨_, ks', kt', kt, hW'.alike, hkt, hks2, hkt2, X.noted hW', fun target hrest => ?_⟩
  subst hg
  jvm_step X.here [hexec, hdg, checkcast.wp_cold (e := e) (s := T) (f := g) X.here.top hstack (resolveClass_links e.toSetting hcl₀) hcl₀.ready,
    checkcast.wp_ready (e := e) (s := T.setVm (T.vm.noted g.method.cls index (.cls cT))) (f := g) X.here.top hcl₀.ready hstack]
  refine ⟨cell, hcell, hobj, ks', hks', kt', hkt', ?_⟩
  rw [if_neg (by rw [hW'.alike.assignable, hasg]; decide)]
  exact hrest
theorem x_castT {index : Nat} {o : Option Nat} {good : List Nat} {Tn : String} {K : Prop} {E : Nat → Prop} (X : xX p s m args meth c own cc nL ret) (hK : va_K D aCl (aT dT) s) (hG : xG adK adV A s s.heap) (hI : xI D dT A s.heap C H locs) (hgd : xgd good Tn = true) (hpn : packageOf Tn = "") (hsn : Nat.ble (dotted Tn).toList.length 24 = true) (hlink : Cond.classLink own index Tn ∈ lw_all) (h : xcastT C good o K E) (hl0 : l.stackTraces = false) (hsz : ls.size = nL) (hRf : 8 ≤ R.frames) (hRl : (rest.map fun v => v.category).sum + 10250 ≤ R.locals) (hc : cells + 3 ≤ R.cells) (hs : slots + 1010 ≤ R.slots) (hdg : decode cc pc = .ok (.checkcast index, 3))
    (kE : ∀ (ce : Cell) (q : Nat) (H1 : Heap), E q → xI D dT A s.heap C H1 locs → H1[q]? = some ce → ce.vm = .none → s.vm.findClass "java/lang/ClassCastException" = some ce.cls → vx_W p l e R s m args below meth c H1 locs (cells + 3) (slots + 1010) Q (F0 m pc ls (va_rf o :: rest)) q)
    (kk : K → W p l e R s m args below meth c H locs cells slots Q (F0 m (pc + 3) ls (va_rf o :: rest))) : W p l e R s m args below meth c H locs cells slots Q (F0 m pc ls (va_rf o :: rest)) := by
  cases o with
  | none => exact lv_castN X.1 X.2.1 hdg (kk (h.1 rfl))
  | some b =>
    obtain ⟨ci, h1, h2, h3⟩ := h.2 b rfl
    obtain ⟨fs, hb⟩ := xcl_spec h1
    obtain ⟨w, hw, cell, g1, g2, g3, -⟩ := hI.1 b _ hb
    have hci : ci < 22 := (List.getElem?_eq_some_iff.mp hw).1
    have hnm : aNm ci = w.1 := by
      have hw' : aCl[ci]? = some w := hw
      simp [aNm, hw']
    obtain ⟨u1, u2⟩ := xgd_spec hgd hci
    rw [hnm] at u1 u2
    by_cases hg : xisX good ci = true
    · rcases u1 hg with e1 | e1
      · subst e1
        exact va_castS (nm := w.1) X.1 X.2.1 X.2.2.2.2.2.1 (X.2.2.2.2.1 _ hlink) (hK.1 ci w hw).2 (x_have hK hI hb hw) hdg (kk (h2 hg))
      · exact va_castY (C := w.1) (nm := Tn) X.1 X.2.1 X.2.2.2.2.2.1 (X.2.2.2.2.1 _ hlink) (hG.1.2.1 (w.1, Tn) e1) (x_have hK hI hb hw) hdg (kk (h2 hg))
    · have hg := Bool.eq_false_iff.mpr hg
      obtain ⟨h4, h5⟩ := h3 hg
      obtain ⟨c0, t0, f1, f2, f3⟩ := hG.1.2.2.1 (w.1, Tn) (u2 hg h4)
      obtain ⟨cell', q1, q2, q3⟩ := x_have hK hI hb hw
      cases q1.symm.trans g1
      cases f1.symm.trans q3
      obtain ⟨ks, hks, n1, n2, n3⟩ := x_fc q3
      obtain ⟨kt, hkt, m1, m2, m3⟩ := x_fc f2
      have hnn := List.all_eq_true.mp x_nms ci (List.mem_range.mpr hci)
      simp only [h4, Bool.not_true, Bool.false_or, Bool.and_eq_true, beq_iff_eq] at hnn
      rw [hnm] at hnn
      intro T hT X0
      obtain ⟨vm', ks', kt', kt2, hal, hkt2, ek, et, X', st⟩ := x_castNo X0 X.1 X.2.2.2.2.2.1 (X.2.2.2.2.1 _ hlink) (by rw [hT]; exact g1) (VmData.noStatics_of q2) hks f2 f3 (g := F0 m pc ls (.ref b :: rest)) rfl rfl (by rw [X.2.1]; exact hdg)
      cases hkt.symm.trans hkt2
      have sn : ks'.name = w.1 := by rw [ek]; exact n1
      have sh : ks'.hidden = none := by rw [ek]; exact n2
      have sl : ks'.loader = none := by rw [ek]; exact n3
      have tn : kt'.name = Tn := by rw [et]; exact m1
      have th : kt'.hidden = none := by rw [et]; exact m2
      have tl : kt'.loader = none := by rw [et]; exact m3
      have hx := x_ctxt (vm := vm') (a := ks') (b := kt') (xMod.moved hal hG.1.2.2.2.2.2.2.2) sl (by rw [sn]; exact hnn.1) tl (by rw [tn]; exact hpn) (by unfold Class.shown; rw [sh, sn]; exact Nat.le_of_ble_eq_true hnn.2) (by unfold Class.shown; rw [th, tn]; exact Nat.le_of_ble_eq_true hsn)
      obtain ⟨t9, st9, q9⟩ := x_vmC (pc := pc) (text := checkcast.message vm' ks' kt') (Q := Q) (rest := .ref b :: rest) X hG hI hl0 hsz hx.1 hx.2 hRf (by show (1 + (rest.map fun v => v.category).sum) + 10240 ≤ _; omega) hc hs (fun ce q H1 => kE ce q H1 (h5 q)) (T.setVm vm') hT X'
      exact ⟨t9, st t9 st9, q9⟩
end XCA
