/-! more rows over the clean heap: new arrays, super calls past one class, final fields of a class below, booleans -/
set_option maxRecDepth 100000
theorem x_sub1 {vm : Vm} {a b : ClassId} {dk : Class} (h : vm.classes[a]? = some dk) (hs : dk.super = some b) : vm.isSubclass a b = true := by
  have hl : 1 ≤ vm.classes.size := Nat.lt_of_le_of_lt (Nat.zero_le a) (Array.getElem?_eq_some_iff.mp h).1
  obtain ⟨k, hk⟩ : ∃ k, vm.classes.size = k + 1 := ⟨vm.classes.size - 1, (Nat.sub_add_cancel hl).symm⟩
  unfold Vm.isSubclass
  rw [hk]
  simp [Vm.isSubclassAux, h, hs]
section XMORE
variable {p : Program} {l : Launch} {e : Env} {R : Room} {s : State} {m : MethodId} {args : Array Value} {below : List Frame} {meth : Method} {c : Code} {H : Heap} {locs : List Loc} {cells slots : Nat} {Q : State → Prop}
variable {own : String} {cc : ByteArray} {nL : Nat} {ret : Option FieldType} {pc : Nat} {ls : Array Slot} {rest st0 : List Value} {D : va_G} {dT : Nat → ClassId} {adK adV : Nat → Nat} {A : Nat → Prop} {C : XH} {a : Nat}
theorem x_putB (X : xX p s m args meth c own cc nL ret) (hK : va_K D aCl (aT dT) s) (hI : xI D dT A s.heap C H locs) (ci k : Nat) {v : Int32} {C' : XH} {Cn ref : String} {T : u_T} {N index : Nat} (hc : aCl[ci]? = some (Cn, T, N)) (hin : ∀ w ∈ u_ws Cn T N, w ∈ lw_all) (ty : Nat → FieldType) (hty : ∀ k, k < N → parseFieldDescriptor (T k).2.2.1 = some (ty k)) (hnm : ∀ a, a < N → ∀ b, b < N → a ≠ b → (T a).2.1 ≠ (T b).2.1) (hk : Nat.blt k N = true) (hlink : Cond.fieldLink own index ref (T k).2.1 (T k).2.2.1 ∈ lw_all) (hT : (T k).1 = ref) (hF : (T k).2.2.2 = false) (hb : ty k = .boolean) (h01 : v = 0 ∨ v = 1) (hv : xpv C (xis ci) a k (.int v) = some C') (hdg : decode cc pc = .ok (.putfield index, 3))
    (kk : ∀ (H1 : Heap) (locs1 : List Loc), xI D dT A s.heap C' H1 locs1 → W p l e R s m args below meth c H1 locs1 cells slots Q (F0 m (pc + 3) ls rest)) : W p l e R s m args below meth c H locs cells slots Q (F0 m pc ls (.int v :: .ref a :: rest)) := by
  refine x_put X hK hI ci k hc hin ty hty hnm hk hlink hT hF ?_ ?_ hv hdg kk
  · rw [hb]; rcases h01 with rfl | rfl <;> rfl
  · rw [hb]; rcases h01 with rfl | rfl <;> rfl
theorem x_putFH (X : xX p s m args meth c RX13 cc nL ret) (hK : va_K D aCl (aT dT) s) (hI : xI D dT A s.heap C H locs) (k : Nat) {v : Int32} {C' : XH} {index : Nat} (hk : k = 0 ∨ k = 1) (hlink : Cond.fieldLink RX13 index RX13 (TX13 k).2.1 (TX13 k).2.2.1 ∈ lw_all) (hini : meth.name = "<init>") (hv : xpv C xisH a k (.int v) = some C') (hdg : decode cc pc = .ok (.putfield index, 3))
    (kk : ∀ (H1 : Heap) (locs1 : List Loc), xI D dT A s.heap C' H1 locs1 → W p l e R s m args below meth c H1 locs1 cells slots Q (F0 m (pc + 3) ls rest)) : W p l e R s m args below meth c H locs cells slots Q (F0 m pc ls (.int v :: .ref a :: rest)) := by
  obtain ⟨ci, fs, h1, h2, hl, rfl⟩ := xpv_spec hv
  have h4 : ci = 13 ∨ ci = 14 ∨ ci = 15 ∨ ci = 16 ∨ ci = 17 ∨ ci = 18 ∨ ci = 19 := by
    simp only [xisH, Bool.and_eq_true] at h2
    have h5 := Nat.le_of_ble_eq_true h2.1
    have h6 := Nat.le_of_ble_eq_true h2.2
    omega
  have hv' : ∀ ci', ci = ci' → xpv C (xis ci') a k (.int v) = some (xset C a (.inr (ci, fs.set k (.int v)))) := by
    intro ci' e
    subst e
    simp [xpv, h1, xis, hl]
  rcases hk with rfl | rfl
  · rcases h4 with e | e | e | e | e | e | e
    · exact x_putF X hK hI 13 0 (T := TX13) (N := 2) rfl in_X13 tyX13 tyX13_ok nmX13 rfl hlink rfl rfl hini rfl rfl (hv' _ e) hdg kk
    · exact x_putF X hK hI 14 0 (T := TX14) (N := 2) rfl in_X14 tyX14 tyX14_ok nmX14 rfl hlink rfl rfl hini rfl rfl (hv' _ e) hdg kk
    · exact x_putF X hK hI 15 0 (T := TX15) (N := 2) rfl in_X15 tyX15 tyX15_ok nmX15 rfl hlink rfl rfl hini rfl rfl (hv' _ e) hdg kk
    · exact x_putF X hK hI 16 0 (T := TX16) (N := 2) rfl in_X16 tyX16 tyX16_ok nmX16 rfl hlink rfl rfl hini rfl rfl (hv' _ e) hdg kk
    · exact x_putF X hK hI 17 0 (T := TX17) (N := 2) rfl in_X17 tyX17 tyX17_ok nmX17 rfl hlink rfl rfl hini rfl rfl (hv' _ e) hdg kk
    · exact x_putF X hK hI 18 0 (T := TX18) (N := 2) rfl in_X18 tyX18 tyX18_ok nmX18 rfl hlink rfl rfl hini rfl rfl (hv' _ e) hdg kk
    · exact x_putF X hK hI 19 0 (T := TX19) (N := 2) rfl in_X19 tyX19 tyX19_ok nmX19 rfl hlink rfl rfl hini rfl rfl (hv' _ e) hdg kk
  · rcases h4 with e | e | e | e | e | e | e
    · exact x_putF X hK hI 13 1 (T := TX13) (N := 2) rfl in_X13 tyX13 tyX13_ok nmX13 rfl hlink rfl rfl hini rfl rfl (hv' _ e) hdg kk
    · exact x_putF X hK hI 14 1 (T := TX14) (N := 2) rfl in_X14 tyX14 tyX14_ok nmX14 rfl hlink rfl rfl hini rfl rfl (hv' _ e) hdg kk
    · exact x_putF X hK hI 15 1 (T := TX15) (N := 2) rfl in_X15 tyX15 tyX15_ok nmX15 rfl hlink rfl rfl hini rfl rfl (hv' _ e) hdg kk
    · exact x_putF X hK hI 16 1 (T := TX16) (N := 2) rfl in_X16 tyX16 tyX16_ok nmX16 rfl hlink rfl rfl hini rfl rfl (hv' _ e) hdg kk
    · exact x_putF X hK hI 17 1 (T := TX17) (N := 2) rfl in_X17 tyX17 tyX17_ok nmX17 rfl hlink rfl rfl hini rfl rfl (hv' _ e) hdg kk
    · exact x_putF X hK hI 18 1 (T := TX18) (N := 2) rfl in_X18 tyX18 tyX18_ok nmX18 rfl hlink rfl rfl hini rfl rfl (hv' _ e) hdg kk
    · exact x_putF X hK hI 19 1 (T := TX19) (N := 2) rfl in_X19 tyX19 tyX19_ok nmX19 rfl hlink rfl rfl hini rfl rfl (hv' _ e) hdg kk
theorem x_same {ref nm : String} {own' : String} (X : xX p s m args meth c own cc nL ret) (h : Cond.sameField ref own' nm "I" ∈ lw_all) : ∀ x, s.fieldFound? own' nm "I" = some x → s.fieldFound? ref nm "I" = some x :=
  fun x hx => u_same (X.2.2.2.2.1 _ h) x hx
/-- a new array of numbers; its class's number is told by its type alone -/
theorem x_ty1 {U : State} {c1 c2 : ClassId} {ty : FieldType} (hr : ∀ n, ty ≠ .object n) (h1 : va_RA U c1 ty) (h2 : va_RA U c2 ty) : c1 = c2 := by
  cases ty with
  | object n => exact absurd rfl (hr n)
  | _ => exact Option.some.inj (h1.symm.trans h2)
theorem x_newa (X : xX p s m args meth c own cc nL ret) (hK : va_K D aCl (aT dT) s) (hI : xI D dT A s.heap C H locs) (hA : ∀ q : Nat, s.heap.size ≤ q → A q) (t : Nat) {atype : ArrayType} {ty : FieldType} (ht : (aT dT)[t]? = some (dT t, ty)) (hty : newarray.typeOf atype = ty) (hr : ∀ n, ty ≠ .object n) (harr : Cond.arrayClass ty ∈ lw_all) {n : Int32} {B : Nat} {x : vp_A} (hx : ∀ cA : ClassId, vp_cell cA x = arrV cA n.toNatClampNeg (fun _ => defaultValue ty)) (hn : ¬ n < 0) (hB : n.toNatClampNeg ≤ B) (hbytes : Nat.ble (B * componentBytes ty) 536870912 = true) (hcells : cells + 1 ≤ R.cells) (hslots : slots + B ≤ R.slots) {K : Nat → XH → Prop} (hv : xnew C (.inl (t, x)) K) (hdg : decode cc pc = .ok (.newarray atype, 2))
    (kk : ∀ (q : Nat) (C' : XH) (H1 : Heap), K q C' → xI D dT A s.heap C' H1 locs → W p l e R s m args below meth c H1 locs (cells + 1) (slots + B) Q (F0 m (pc + 2) ls (.ref q :: rest))) : W p l e R s m args below meth c H locs cells slots Q (F0 m pc ls (.int n :: rest)) := by
  subst hty
  have hb := Nat.le_of_ble_eq_true hbytes
  refine va_newaK X.1 X.2.1 (X.2.2.2.2.1 _ harr) rfl hdg rfl hn rfl (Nat.le_trans (Nat.mul_le_mul_right _ hB) hb) hcells (by omega) rfl fun H1 cA e1 z1 o1 hAr hNm => ?_
  have hcA : cA = dT t := by
    have h1 := (hK.2 t _ ht).2
    refine x_ty1 hr ?_ h1
    cases atype <;> exact hNm
  subst hcA
  obtain ⟨hn', hI'⟩ := hI.new (e := .inl (t, x)) hA (show H1[H.size]? = some (vp_cell (dT t) x) by rw [hx]; exact e1) o1 (by omega)
  exact W.widen (Nat.le_refl _) (Nat.add_le_add_left hB _) (kk H.size _ H1 (hv _ hn') hI')
/-- super.m(..), where the method is the class's above, or of the class above that -/
theorem x_callSP {T : State} (X : Stand p l e R s m args below meth c T locs cells slots) (hexec : p.tables.exec = Jvm.exec) {own owner : String} {index : Nat} {x y : MethodName} {bytes : ByteArray} {maxL : Nat} {ret : Option FieldType}
    (hown : s.vm.findClass own = some m.cls) (hlink : (Cond.methodLink own index x).before args s = true) (hsame : (Cond.sameMethod x.cls owner x.name x.desc).before args s = true) (hsup : (Cond.superclass own x.cls).before args s = true) (hsup2 : (Cond.superclass x.cls owner).before args s = true) (hy : y = ⟨owner, x.name, x.desc⟩)
    (hinst : (Cond.instanceMethod y).before args s = true) (hcode : (Cond.code y bytes maxL ret).before args s = true) (hno : y.name ≠ "<init>")
    {W : Nat} {Pre : Pt → Array Value → Prop} {Post : Pt → Array Value → Option Value → Pt → Prop} (hK : Back l R p e below s args y 3 W Pre Post)
    {b : Addr} {cellB : Cell} {kB : Class} (hcell : T.heap[b]? = some cellB) (hobj : cellB.vm.isStatics = false) (hkB : s.vm.classes[cellB.cls]? = some kB)
    {g : JFrame} (hg : g.method = m) (hsize : g.locals.size = c.maxLocals) {argsL rest : List Value} (hlen : ∀ sig, parseMethodDescriptor y.desc = some sig → argsL.length = sig.parameters.length)
    (hstack : g.stack = argsL.reverse ++ .ref b :: rest) (hW : 2 * g.monitorRoom + (rest.map fun v => v.category).sum ≤ W) (hdg : decode c.code g.pc = .ok (.invokespecial index, 3))
    (hpre : ∀ vm₁, s.WarmedH vm₁ → Pre ⟨T.setVm vm₁, locs, cells, slots⟩ (Value.ref b :: argsL).toArray) :
    ∃ (v : Option Value) (vm₁ : Vm) (B : Pt), s.WarmedH vm₁ ∧ Stand p l e R s m args below meth c B.U B.locs B.cells B.slots ∧ Post ⟨T.setVm vm₁, locs, cells, slots⟩ (Value.ref b :: argsL).toArray v B ∧
      ∀ target, Steps p.tables e below (B.U.setTop { g with pc := g.pc + 3, stack := v.toList ++ rest }) target → Steps p.tables e below (T.setTop g) target := by
  obtain ⟨mk, methM, hnamed, hmethM, hstM, habM⟩ := Cond.instanceMethod_spec hinst
  obtain ⟨methM', cM, hmethM', -, -, -, -, -, -, hsigM⟩ := Cond.code_spec hnamed hcode
  cases hmethM.symm.trans hmethM'
  obtain ⟨ps, dk, kp, hps, hdk, hkp, hsuper, -, -, hnid⟩ := Cond.superclass_spec hown hsup
  obtain ⟨ps2, dk2, kp2, hps2, hdk2, hkp2, hsuper2, -, -, -⟩ := Cond.superclass_spec hps hsup2
  have hn : s.methodNamed? ⟨owner, x.name, x.desc⟩ = some mk := by rw [← hy]; exact hnamed
  have hpm : ps2 = mk.cls := by
    have h1 := findClass_of_methodNamed hnamed
    rw [hy] at h1
    exact Option.some.inj (hps2.symm.trans h1)
  have hsub : s.vm.isSubclass ps mk.cls = true := by
    rw [← hpm]
    exact x_sub1 hdk2 hsuper2
  obtain ⟨vm₁, X₁, hstep₁⟩ := X.invokespecialUp hexec hown hlink hsame hn hmethM hstM habM (by rw [hy] at hno; exact hno) hdk hnid hps hsuper hsub (a := b) (cell := cellB) hcell
    (fun z h => by rw [h] at hobj; cases hobj) hkB (g := g) hg (argsL := argsL) (rest := rest) (hlen _ hsigM) hstack hdg
  obtain ⟨v, B, X', hpost, hsteps⟩ := hK m meth c ⟨T.setVm vm₁, locs, cells, slots⟩ { g with stack := rest } (.invokespecial index) mk (Value.ref b :: argsL).toArray X₁ hg hsize hdg hW (X₁.named hnamed) (hpre vm₁ X₁.warmed)
  exact ⟨v, vm₁, B, X₁.warmed, X', hpost, fun target h => hstep₁ _ (by rw [doInvoke_state]; exact hsteps.trans h)⟩
theorem x_runSP (X : xX p s m args meth c own cc nL ret) (hK : va_K D aCl (aT dT) s) (hA : ∀ q : Nat, s.heap.size ≤ q → A q) (hG : xG adK adV A s s.heap) (hI : xI D dT A s.heap C H locs) {Qc : va_G → (Nat → ClassId) → (Nat → Prop) → Array Value → State → Outcome → State → Prop} {x y : MethodName} {bytes : ByteArray} {maxL fr' lo' mc ms index n ci b : Nat} {r : Option FieldType} {As fs : List Value} {q : vw_C} {owner : String} (hb : C b = some (.inr (ci, fs))) (hc : aCl[ci]? = some q) (hC : xMet l y (ws_ y bytes maxL r) fr' lo' mc ms C (.ref b :: As) Qc) (hF : xInf y bytes maxL r n) (hno : y.name ≠ "<init>") (hy : y = ⟨owner, x.name, x.desc⟩) (w1 : Cond.methodLink own index x ∈ lw_all) (w2 : Cond.sameMethod x.cls owner x.name x.desc ∈ lw_all) (w3 : Cond.superclass own x.cls ∈ lw_all) (w3b : Cond.superclass x.cls owner ∈ lw_all) (w4 : Cond.instanceMethod y ∈ lw_all) (w5 : Cond.initialized y.cls ∈ lw_all) (hR : fr' + 1 ≤ R.frames ∧ 8 + (maxL + 11) + lo' ≤ R.locals) (hlen : As.length = n) (hsz : ls.size = nL) (hst : st0 = As.reverse ++ .ref b :: rest) (hrm : (rest.map fun v => v.category).sum ≤ 8) (hdg : decode cc pc = .ok (.invokespecial index, 3)) (hf : cells + mc ≤ R.cells ∧ slots + ms ≤ R.slots) :
    xCtx p l e R s m args below meth c H locs cells slots mc ms D dT C pc ls st0 rest Qc (.ref b :: As) := by
  obtain ⟨h1, h2, h3, h4⟩ := hF
  have hts := X.2.2.2.2.1
  have hp := xPreV hK hA hG hI (As := As) hb hc
  have hBk : Back l R p e below s args y 3 8 (PreOf R mc ms (xPre D dT adK adV C H.size (.ref b :: As))) (PostOf (Qc D dT (xA C H.size)) mc ms (xA C H.size)) := back_of (bytes := bytes) (maxL := maxL) (ret := r) (hC D dT adK adV H.size) hp.1 rfl rfl hR.1 hR.2 (pay_in hts (lw_meth h1)) List.mem_cons_self (fun a' U hW => word_at hW (Or.inl (by first | rfl | simp [Cond.onTables, Cond.keeps, Cond.steady])) (hts _ w5))
  obtain ⟨-, ⟨cellB, hcB, hoB, hclB⟩, hPc⟩ := hp
  obtain ⟨hfc, kB, hkB, -⟩ := (hK.1 ci q hc).2
  have he : cellB.cls = D.1 ci := Option.some.inj (hclB.symm.trans hfc)
  rw [← he] at hkB
  intro T hT X0
  obtain ⟨v, vm₁, ⟨U', l2, c2, s2⟩, hW₁, X', ⟨g', mk, t, L, e1, e2, hq, h1, hL, h2, h3⟩, st⟩ := x_callSP X0 X.1 (bytes := bytes) (maxL := maxL) (ret := r) X.2.2.2.2.2.1 (hts _ w1) (hts _ w2) (hts _ w3) (hts _ w3b) hy (hts _ w4) (hts _ h1) hno hBk (by rw [hT]; exact hcB) hoB hkB (g := F0 m pc ls st0) rfl (hsz.trans X.2.2.2.1.symm) (argsL := As) (rest := rest) (fun sig h => by
      rw [h] at h4
      exact hlen.trans (Option.some.inj h4).symm) hst (lv_room hrm) (by rw [X.2.1]; exact hdg)
    (fun vm₁ hW₁ => ⟨hf.1, hf.2, hPc (T.setVm vm₁) hT hW₁⟩)
  dsimp only [Pt.U, Pt.locs, Pt.cells, Pt.slots] at X' e1 e2 h1 h2 h3 st
  subst h1; subst h2; subst h3
  exact ⟨v, (T.setVm vm₁).calling g' mk (Value.ref b :: As).toArray, t, U', L, hT, X', hL, e1, e2, hq, st⟩
end XMORE
