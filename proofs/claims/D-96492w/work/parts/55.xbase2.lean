/-! rows over the clean heap: casts, tests of a class, copies of arrays -/
set_option maxRecDepth 100000
noncomputable def NF9 : Nat := Classical.choose (⟨9, rfl⟩ : ∃ n : Nat, n = 9)
theorem NF9_eq : NF9 = 9 := Classical.choose_spec (⟨9, rfl⟩ : ∃ n : Nat, n = 9)
noncomputable def NF170 : Nat := Classical.choose (⟨170, rfl⟩ : ∃ n : Nat, n = 170)
theorem NF170_eq : NF170 = 170 := Classical.choose_spec (⟨170, rfl⟩ : ∃ n : Nat, n = 170)
def xEK (cn : String) (E : Nat → XH → Prop) : String → Addr → XH → Prop := fun En q C => En = cn ∧ E q C
def xE0 : String → Addr → XH → Prop := fun _ _ _ => False
def xisR : Nat → Bool := fun c => Nat.ble 9 c && Nat.ble c 12
/-- whether it is a child: null isn't, a row isn't -/
def xinst (C : XH) (o : Option Nat) (K : Int32 → Prop) : Prop := (o = none → K 0) ∧ ∀ q, o = some q → obd (xcl C q) (fun ci => (xisH ci = true → K 1) ∧ (xisH ci = false → xisR ci = true ∧ K 0))
/-- System.arraycopy of numbers / of references -/
def aTy (t : Nat) : FieldType := match t with
  | 0 => .int
  | 2 => .byte
  | _ => .short
def xcpi (t : Nat) (C : XH) (a0 : Nat) (sp : Int32) (a : Nat) (dp n : Int32) (K : XH → Prop) : Prop := ∃ (n0 n1 : Nat) (f g : Nat → Int32), C a0 = some (.inl (t, n0, .inl f)) ∧ C a = some (.inl (t, n1, .inl g)) ∧ ¬ sp < 0 ∧ ¬ dp < 0 ∧ ¬ n < 0 ∧ sp.toNatClampNeg + n.toNatClampNeg ≤ n0 ∧ dp.toNatClampNeg + n.toNatClampNeg ≤ n1 ∧ (∀ i, i < n.toNatClampNeg → fits (aTy t) (.int (f (sp.toNatClampNeg + i))) = true) ∧ K (xset C a (.inl (t, n1, .inl (va_cpy f g sp.toNatClampNeg dp.toNatClampNeg n.toNatClampNeg))))
def xcpl (C : XH) (a0 : Nat) (sp : Int32) (a : Nat) (dp n : Int32) (K : XH → Prop) : Prop := ∃ (n0 n1 : Nat) (f g : Nat → Int64), C a0 = some (.inl (1, n0, .inr (.inl f))) ∧ C a = some (.inl (1, n1, .inr (.inl g))) ∧ ¬ sp < 0 ∧ ¬ dp < 0 ∧ ¬ n < 0 ∧ sp.toNatClampNeg + n.toNatClampNeg ≤ n0 ∧ dp.toNatClampNeg + n.toNatClampNeg ≤ n1 ∧ K (xset C a (.inl (1, n1, .inr (.inl (va_cpy f g sp.toNatClampNeg dp.toNatClampNeg n.toNatClampNeg)))))
def xcpq (C : XH) (a0 : Nat) (sp : Int32) (a : Nat) (dp n : Int32) (K : XH → Prop) : Prop := ∃ (n0 n1 : Nat) (f g : Nat → Option Nat), C a0 = some (.inl (7, n0, .inr (.inr (.inr (.inr f))))) ∧ C a = some (.inl (7, n1, .inr (.inr (.inr (.inr g))))) ∧ ¬ sp < 0 ∧ ¬ dp < 0 ∧ ¬ n < 0 ∧ sp.toNatClampNeg + n.toNatClampNeg ≤ n0 ∧ dp.toNatClampNeg + n.toNatClampNeg ≤ n1 ∧ (∀ i, i < n.toNatClampNeg → ∀ y, f (sp.toNatClampNeg + i) = some y → obd (xcl C y) (fun ci => xisH ci = true)) ∧ K (xset C a (.inl (7, n1, .inr (.inr (.inr (.inr (va_cpy f g sp.toNatClampNeg dp.toNatClampNeg n.toNatClampNeg)))))))
theorem x_isH {ci : Nat} (h : xisH ci = true) : ci = 13 ∨ ci = 14 ∨ ci = 15 ∨ ci = 16 ∨ ci = 17 ∨ ci = 18 ∨ ci = 19 := by
  simp only [xisH, Bool.and_eq_true] at h
  have h5 := Nat.le_of_ble_eq_true h.1
  have h6 := Nat.le_of_ble_eq_true h.2
  omega
theorem x_isR {ci : Nat} (h : xisR ci = true) : ci = 9 ∨ ci = 10 ∨ ci = 11 ∨ ci = 12 := by
  simp only [xisR, Bool.and_eq_true] at h
  have h5 := Nat.le_of_ble_eq_true h.1
  have h6 := Nat.le_of_ble_eq_true h.2
  omega
theorem x_aclH {ci : Nat} (h : xisH ci = true) : ∃ q, aCl[ci]? = some q := by
  rcases x_isH h with rfl | rfl | rfl | rfl | rfl | rfl | rfl <;> exact ⟨_, rfl⟩
section XB2
variable {p : Program} {l : Launch} {e : Env} {R : Room} {s : State} {m : MethodId} {args : Array Value} {below : List Frame} {meth : Method} {c : Code} {H : Heap} {locs : List Loc} {cells slots : Nat} {Q : State → Prop}
variable {own : String} {cc : ByteArray} {nL : Nat} {ret : Option FieldType} {pc : Nat} {ls : Array Slot} {rest : List Value} {D : va_G} {dT : Nat → ClassId} {adK adV : Nat → Nat} {A : Nat → Prop} {C : XH} {a : Nat}
theorem x_anyS (hK : va_K D aCl (aT dT) s) (hI : xI D dT A s.heap C H locs) {ci v : Nat} {w : vw_C} (h : xcl C v = some ci) (hc : aCl[ci]? = some w) : va_Any w.1 s H v := by
  obtain ⟨fs, hb⟩ := xcl_spec h
  refine va_rAny hK (hI.1.one hb) (q0 := 0) rfl hc (fun comp c0 h1 h2 => ?_)
  cases h1.symm.trans h2
  have h3 := (hK.1 ci w hc).2
  cases h3.1.symm.trans h1
  exact va_assign h3
theorem x_anyH (hK : va_K D aCl (aT dT) s) (hG : xG adK adV A s s.heap) (hI : xI D dT A s.heap C H locs) {v : Nat} (h : obd (xcl C v) (fun ci => xisH ci = true)) : va_Any RX13 s H v := by
  obtain ⟨ci, h1, h2⟩ := h
  obtain ⟨fs, hb⟩ := xcl_spec h1
  have up : ∀ {w : vw_C}, aCl[ci]? = some w → (w.1, RX13) ∈ xNwC → va_Any RX13 s H v := by
    intro w hc hm
    refine va_rAny hK (hI.1.one hb) (q0 := 0) rfl hc (fun comp c0 f1 f2 => ?_)
    obtain ⟨c1, t1, g1, g2, g3⟩ := Cond.castable_spec (va_Nw.use (A := #[]) rfl (hG.1.2.1 (w.1, RX13) hm))
    cases f1.symm.trans g2
    cases f2.symm.trans g1
    exact g3
  rcases x_isH h2 with rfl | rfl | rfl | rfl | rfl | rfl | rfl
  · exact x_anyS (w := (RX13, TX13, 2)) hK hI h1 rfl
  all_goals exact up rfl (by decide)
theorem x_castH {index : Nat} (X : xX p s m args meth c own cc nL ret) (hK : va_K D aCl (aT dT) s) (hG : xG adK adV A s s.heap) (hI : xI D dT A s.heap C H locs) (hlink : Cond.classLink own index RX13 ∈ lw_all) (h : obd (xcl C a) (fun ci => xisH ci = true)) (hdg : decode cc pc = .ok (.checkcast index, 3))
    (k : W p l e R s m args below meth c H locs cells slots Q (F0 m (pc + 3) ls (.ref a :: rest))) : W p l e R s m args below meth c H locs cells slots Q (F0 m pc ls (.ref a :: rest)) := by
  obtain ⟨ci, h1, h2⟩ := h
  obtain ⟨fs, hb⟩ := xcl_spec h1
  have up : ∀ {w : vw_C}, aCl[ci]? = some w → (w.1, RX13) ∈ xNwC → W p l e R s m args below meth c H locs cells slots Q (F0 m pc ls (.ref a :: rest)) :=
    fun {w} hc hm => va_castY (C := w.1) (nm := RX13) X.1 X.2.1 X.2.2.2.2.2.1 (X.2.2.2.2.1 _ hlink) (hG.1.2.1 (w.1, RX13) hm) (x_have hK hI hb hc) hdg k
  rcases x_isH h2 with rfl | rfl | rfl | rfl | rfl | rfl | rfl
  · exact va_castS (nm := RX13) X.1 X.2.1 X.2.2.2.2.2.1 (X.2.2.2.2.1 _ hlink) (hK.1 13 _ rfl).2 (x_have hK hI hb rfl) hdg k
  all_goals exact up rfl (by decide)
theorem x_castR {index : Nat} (X : xX p s m args meth c own cc nL ret) (hK : va_K D aCl (aT dT) s) (hG : xG adK adV A s s.heap) (hI : xI D dT A s.heap C H locs) (hlink : Cond.classLink own index "InASackToTheRope$Row" ∈ lw_all) (h : obd (xcl C a) (fun ci => xisR ci = true)) (hdg : decode cc pc = .ok (.checkcast index, 3))
    (k : W p l e R s m args below meth c H locs cells slots Q (F0 m (pc + 3) ls (.ref a :: rest))) : W p l e R s m args below meth c H locs cells slots Q (F0 m pc ls (.ref a :: rest)) := by
  obtain ⟨ci, h1, h2⟩ := h
  obtain ⟨fs, hb⟩ := xcl_spec h1
  have up : ∀ {w : vw_C}, aCl[ci]? = some w → (w.1, "InASackToTheRope$Row") ∈ xNwC → W p l e R s m args below meth c H locs cells slots Q (F0 m pc ls (.ref a :: rest)) :=
    fun {w} hc hm => va_castY (C := w.1) (nm := "InASackToTheRope$Row") X.1 X.2.1 X.2.2.2.2.2.1 (X.2.2.2.2.1 _ hlink) (hG.1.2.1 (w.1, "InASackToTheRope$Row") hm) (x_have hK hI hb hc) hdg k
  rcases x_isR h2 with rfl | rfl | rfl | rfl
  all_goals exact up rfl (by decide)
theorem x_inst {index : Nat} {o : Option Nat} {K : Int32 → Prop} (X : xX p s m args meth c own cc nL ret) (hK : va_K D aCl (aT dT) s) (hG : xG adK adV A s s.heap) (hI : xI D dT A s.heap C H locs) (hlink : Cond.classLink own index RX13 ∈ lw_all) (h : xinst C o K) (hdg : decode cc pc = .ok (.instanceof index, 3))
    (k : ∀ v : Int32, isB v → K v → W p l e R s m args below meth c H locs cells slots Q (F0 m (pc + 3) ls (.int v :: rest))) : W p l e R s m args below meth c H locs cells slots Q (F0 m pc ls (va_rf o :: rest)) := by
  cases o with
  | none => exact lv_instN X.1 X.2.1 hdg (k 0 isB0 (h.1 rfl))
  | some b =>
    obtain ⟨ci, h1, h2, h3⟩ := h.2 b rfl
    obtain ⟨fs, hb⟩ := xcl_spec h1
    by_cases hH : xisH ci = true
    · have up : ∀ {w : vw_C}, aCl[ci]? = some w → (w.1, RX13) ∈ xNwC → W p l e R s m args below meth c H locs cells slots Q (F0 m pc ls (.ref b :: rest)) :=
        fun {w} hc hm => va_instY (C := w.1) (nm := RX13) X.1 X.2.1 X.2.2.2.2.2.1 (X.2.2.2.2.1 _ hlink) (hG.1.2.1 (w.1, RX13) hm) (x_have hK hI hb hc) hdg (k 1 isB1 (h2 hH))
      rcases x_isH hH with rfl | rfl | rfl | rfl | rfl | rfl | rfl
      · exact va_instS (nm := RX13) X.1 X.2.1 X.2.2.2.2.2.1 (X.2.2.2.2.1 _ hlink) (hK.1 13 _ rfl).2 (x_have hK hI hb rfl) hdg (k 1 isB1 (h2 hH))
      all_goals exact up rfl (by decide)
    · obtain ⟨h4, h5⟩ := h3 (Bool.eq_false_iff.mpr hH)
      have dn : ∀ {w : vw_C}, aCl[ci]? = some w → (w.1, RX13) ∈ xNc → W p l e R s m args below meth c H locs cells slots Q (F0 m pc ls (.ref b :: rest)) :=
        fun {w} hc hm => va_instNo (C := w.1) (nm := RX13) X.1 X.2.1 X.2.2.2.2.2.1 (X.2.2.2.2.1 _ hlink) (hG.1.2.2.1 (w.1, RX13) hm) (x_have hK hI hb hc) hdg (k 0 isB0 h5)
      rcases x_isR h4 with rfl | rfl | rfl | rfl
      all_goals exact dn rfl (by decide)
theorem x_nn {z : Int32} (hz : ¬ z < 0) : z.toInt = (z.toNatClampNeg : Int) := by
  have hz0 : (0 : Int) ≤ z.toInt := by
    have := Int32.not_lt.mp hz
    simpa using Int32.le_iff_toInt_le.mp this
  show z.toInt = ((z.toInt.toNat : Nat) : Int)
  omega
theorem x_cp {index t : Nat} {ty : FieldType} {a0 : Nat} {n0 n1 : Nat} {V0 V1 : Nat → Value} {x0 x1 x2 : vp_A} {K : XH → Prop} {sp dp n : Int32} (X : xX p s m args meth c own cc nL ret) (hK : va_K D aCl (aT dT) s) (hI : xI D dT A s.heap C H locs) (ht : (aT dT)[t]? = some (dT t, ty)) (g0 : C a0 = some (.inl (t, x0))) (g1 : C a = some (.inl (t, x1))) (e0 : ∀ cA, vp_cell cA x0 = arrV cA n0 V0) (e1 : ∀ cA, vp_cell cA x1 = arrV cA n1 V1)
    (h1 : ¬ sp < 0) (h2 : ¬ dp < 0) (h3 : ¬ n < 0) (h4 : sp.toNatClampNeg + n.toNatClampNeg ≤ n0) (h5 : dp.toNatClampNeg + n.toNatClampNeg ≤ n1)
    (hcp : ∀ cA, copied (vp_cell cA x0) (vp_cell cA x1) sp dp n = vp_cell cA x2)
    (hel : ∀ (T : State) (vm₁ : Vm), T.heap = H → s.vm.Alike vm₁ → ∀ i, i < n.toNatClampNeg → (refKind ty = false ∧ fits ty (V0 (sp.toNatClampNeg + i)) = true ∧ (V0 (sp.toNatClampNeg + i)).isRef = false) ∨ (refKind ty = true ∧ (V0 (sp.toNatClampNeg + i) = .null ∨ ∃ (y : Nat) (E1 : String), V0 (sp.toNatClampNeg + i) = .ref y ∧ ty = .object E1 ∧ va_Any E1 s H y)))
    (hlink : Cond.methodLink own index arraycopyName ∈ lw_all) (hnat : Cond.native arraycopyName ∈ lw_all) (hstat : Cond.static arraycopyName ∈ lw_all) (hini : Cond.initialized "java/lang/System" ∈ lw_all) (hsz : ls.size = nL) (hq : K (xset C a (.inl (t, x2))))
    (hframes : 1 ≤ R.frames) (hlocals : (rest.map fun v => v.category).sum + (nativeFrameWords "java/lang/System" "arraycopy" 5 + 11) ≤ R.locals) (hdg : decode cc pc = .ok (.invokestatic index, 3))
    (kk : ∀ (C' : XH) (H1 : Heap) (locs1 : List Loc), K C' → xI D dT A s.heap C' H1 locs1 → W p l e R s m args below meth c H1 locs1 cells slots Q (F0 m (pc + 3) ls rest)) : W p l e R s m args below meth c H locs cells slots Q (F0 m pc ls (.int n :: .int dp :: .ref a :: .int sp :: .ref a0 :: rest)) := by
  intro T hT X0
  have hc0 : H[a0]? = some (vp_cell (dT t) x0) := hI.1 a0 _ g0
  have hc1 : H[a]? = some (vp_cell (dT t) x1) := hI.1 a _ g1
  have hc0' := hc0
  have hc1' := hc1
  rw [e0] at hc0
  rw [e1] at hc1
  have hcp := hcp (dT t)
  rw [e0, e1] at hcp
  obtain ⟨-, k0, hk0, cm0, hkk0⟩ := (hK.2 t _ ht).1 n0 V0
  obtain ⟨-, k1, hk1, cm1, hkk1⟩ := (hK.2 t _ ht).1 n1 V1
  obtain ⟨vm', X', step⟩ := X0.arraycopy X.1 X.2.2.2.2.2.1 (X.2.2.2.2.1 _ hlink) (X.2.2.2.2.1 _ hnat) (X.2.2.2.2.1 _ hstat) (X.2.2.2.2.1 _ hini) (src := a0) (dst := a) (cs := arrV (dT t) n0 V0) (cd := arrV (dT t) n1 V1) (srcPos := sp) (destPos := dp) (n := n) (by rw [hT]; exact hc0) (by rw [hT]; exact hc1)
    (fun _ h => by cases h) (fun _ h => by cases h) (fun h => by cases h) (fun h => by cases h) hk0 hk1 hkk0 hkk1 (by cases h : refKind ty <;> simp) h1 h2 h3
    (by rw [x_nn h1, x_nn h3, arrV_size]; omega)
    (by rw [x_nn h2, x_nn h3, arrV_size]; omega)
    (fun vm₁ hal i hi => by
      have e : (arrV (dT t) n0 V0).slots.getD (sp.toNatClampNeg + i) .null = V0 (sp.toNatClampNeg + i) := by
        rw [Array.getD_eq_getD_getElem?, arrV_read _ _ (by omega)]
        rfl
      rw [e]
      rcases hel T vm₁ hT hal i hi with ⟨r0, r1, r2⟩ | ⟨r0, r1 | ⟨y, E1, r1, r2, r3⟩⟩
      · refine ⟨r1, ?_⟩
        cases hv : V0 (sp.toNatClampNeg + i) <;> first | trivial | (rw [hv] at r2; cases r2)
      · rw [r1]
        refine ⟨?_, trivial⟩
        cases ty <;> first | rfl | (cases r0)
      · rw [r1]
        subst r2
        obtain ⟨cellV, q1, q2, ⟨kC, hkC⟩, hasg⟩ := r3
        obtain ⟨kA, comp, r1, r2, r3, -⟩ := (hK.2 t _ ht).2
        cases hk1.symm.trans r1
        cases hkk1.symm.trans r2
        obtain ⟨kE, hkE, -⟩ := Vm.findClass_spec r3
        obtain ⟨kC', hkC', -⟩ := hal.2.2 _ _ hkC
        obtain ⟨kE', hkE', -⟩ := hal.2.2 _ _ hkE
        refine ⟨rfl, cellV, (show T.heap[y]? = some cellV by rw [hT]; exact q1), (fun q h => by rw [h] at q2; cases q2), ⟨kC', hkC'⟩, ?_, ?_⟩
        · exact ⟨kE', hkE'⟩
        · show vm₁.assignable _ _ = true
          rw [hal.assignable]
          exact hasg _ r3)
    (g := F0 m pc ls (.int n :: .int dp :: .ref a :: .int sp :: .ref a0 :: rest)) rfl (hsz.trans X.2.2.2.1.symm) (rest := rest) rfl (by rw [X.2.1]; exact hdg) hframes (by show 2 * 0 + _ + _ ≤ _; omega)
  rw [hcp] at X' step
  have hl : a < H.size := (Array.getElem?_eq_some_iff.mp hc1).1
  have hheap : ((T.setVm vm').setCell a (vp_cell (dT t) x2)).heap = H.setIfInBounds a (vp_cell (dT t) x2) := by rw [← hT]; rfl
  have oq : ∀ q : Nat, q ≠ a → (H.setIfInBounds a (vp_cell (dT t) x2))[q]? = H[q]? := fun q hq => by simp [Array.getElem?_setIfInBounds, Ne.symm hq]
  have hAa := hI.2.1 a _ g1
  obtain ⟨t9, a1, b1⟩ := kk _ _ _ hq (hI.upd g1 (show (H.setIfInBounds a _)[a]? = some (vp_cell (dT t) x2) by simp [Array.getElem?_setIfInBounds, hl]) oq ⟨by simp; exact hI.2.2.1, fun q g1 g2 => by
      rw [oq q (fun e => g2 (by rw [e]; exact hAa))]
      exact hI.2.2.2.1 q g1 g2, fun q hq => by
      rcases List.mem_append.mp hq with h | h
      · exact hI.2.2.2.2 q h
      · obtain ⟨z, -, hz⟩ := List.mem_map.mp h
        rw [← hz]
        exact hAa⟩) _ hheap X'
  exact ⟨t9, step t9 a1, b1⟩
theorem x_cpi {index : Nat} {a0 : Nat} {K : XH → Prop} {sp dp n : Int32} (t : Nat) (ht : t = 0 ∨ t = 2 ∨ t = 3) (X : xX p s m args meth c own cc nL ret) (hK : va_K D aCl (aT dT) s) (hI : xI D dT A s.heap C H locs) (hlink : Cond.methodLink own index arraycopyName ∈ lw_all) (h : xcpi t C a0 sp a dp n K) (hsz : ls.size = nL) (hframes : 1 ≤ R.frames) (hlocals : (rest.map fun v => v.category).sum + (nativeFrameWords "java/lang/System" "arraycopy" 5 + 11) ≤ R.locals) (hdg : decode cc pc = .ok (.invokestatic index, 3))
    (kk : ∀ (C' : XH) (H1 : Heap) (locs1 : List Loc), K C' → xI D dT A s.heap C' H1 locs1 → W p l e R s m args below meth c H1 locs1 cells slots Q (F0 m (pc + 3) ls rest)) : W p l e R s m args below meth c H locs cells slots Q (F0 m pc ls (.int n :: .int dp :: .ref a :: .int sp :: .ref a0 :: rest)) := by
  obtain ⟨n0, n1, f, g, g0, g1, h1, h2, h3, h4, h5, h6, h7⟩ := h
  have hty : (aT dT)[t]? = some (dT t, aTy t) := by rcases ht with rfl | rfl | rfl <;> rfl
  have hrk : refKind (aTy t) = false := by rcases ht with rfl | rfl | rfl <;> rfl
  exact x_cp (x2 := (n1, .inl (va_cpy f g sp.toNatClampNeg dp.toNatClampNeg n.toNatClampNeg))) X hK hI hty g0 g1 (n0 := n0) (n1 := n1) (V0 := fun j => .int (f j)) (V1 := fun j => .int (g j)) (fun _ => vp_cell_i _ _ _) (fun _ => vp_cell_i _ _ _) h1 h2 h3 h4 h5 (fun cA => va_copied (fun z => .int z) cA cA f g h4) (fun T vm₁ _ _ i hi => Or.inl ⟨hrk, h6 i hi, rfl⟩) hlink q625 q624 q115 hsz h7 hframes hlocals hdg kk
theorem x_cpl {index : Nat} {a0 : Nat} {K : XH → Prop} {sp dp n : Int32} (X : xX p s m args meth c own cc nL ret) (hK : va_K D aCl (aT dT) s) (hI : xI D dT A s.heap C H locs) (hlink : Cond.methodLink own index arraycopyName ∈ lw_all) (h : xcpl C a0 sp a dp n K) (hsz : ls.size = nL) (hframes : 1 ≤ R.frames) (hlocals : (rest.map fun v => v.category).sum + (nativeFrameWords "java/lang/System" "arraycopy" 5 + 11) ≤ R.locals) (hdg : decode cc pc = .ok (.invokestatic index, 3))
    (kk : ∀ (C' : XH) (H1 : Heap) (locs1 : List Loc), K C' → xI D dT A s.heap C' H1 locs1 → W p l e R s m args below meth c H1 locs1 cells slots Q (F0 m (pc + 3) ls rest)) : W p l e R s m args below meth c H locs cells slots Q (F0 m pc ls (.int n :: .int dp :: .ref a :: .int sp :: .ref a0 :: rest)) := by
  obtain ⟨n0, n1, f, g, g0, g1, h1, h2, h3, h4, h5, h7⟩ := h
  exact x_cp (x2 := (n1, .inr (.inl (va_cpy f g sp.toNatClampNeg dp.toNatClampNeg n.toNatClampNeg)))) (t := 1) (ty := .long) X hK hI rfl g0 g1 (n0 := n0) (n1 := n1) (V0 := fun j => .long (f j)) (V1 := fun j => .long (g j)) (fun _ => rfl) (fun _ => rfl) h1 h2 h3 h4 h5 (fun cA => va_copied (fun z => .long z) cA cA f g h4) (fun T vm₁ _ _ i hi => Or.inl ⟨rfl, rfl, rfl⟩) hlink q625 q624 q115 hsz h7 hframes hlocals hdg kk
theorem x_cpq {index : Nat} {a0 : Nat} {K : XH → Prop} {sp dp n : Int32} (X : xX p s m args meth c own cc nL ret) (hK : va_K D aCl (aT dT) s) (hG : xG adK adV A s s.heap) (hI : xI D dT A s.heap C H locs) (hlink : Cond.methodLink own index arraycopyName ∈ lw_all) (h : xcpq C a0 sp a dp n K) (hsz : ls.size = nL) (hframes : 1 ≤ R.frames) (hlocals : (rest.map fun v => v.category).sum + (nativeFrameWords "java/lang/System" "arraycopy" 5 + 11) ≤ R.locals) (hdg : decode cc pc = .ok (.invokestatic index, 3))
    (kk : ∀ (C' : XH) (H1 : Heap) (locs1 : List Loc), K C' → xI D dT A s.heap C' H1 locs1 → W p l e R s m args below meth c H1 locs1 cells slots Q (F0 m (pc + 3) ls rest)) : W p l e R s m args below meth c H locs cells slots Q (F0 m pc ls (.int n :: .int dp :: .ref a :: .int sp :: .ref a0 :: rest)) := by
  obtain ⟨n0, n1, f, g, g0, g1, h1, h2, h3, h4, h5, h6, h7⟩ := h
  refine x_cp (t := 7) (ty := .object RX13) X hK hI rfl g0 g1 (n0 := n0) (n1 := n1) (V0 := fun j => va_rf (f j)) (V1 := fun j => va_rf (g j)) (fun _ => vp_cell_q _ _ _) (fun _ => vp_cell_q _ _ _) h1 h2 h3 h4 h5 (fun cA => ?_) (fun T vm₁ _ _ i hi => Or.inr ⟨rfl, ?_⟩) hlink q625 q624 q115 hsz h7 hframes hlocals hdg kk
  · rw [vp_cell_q, vp_cell_q, vp_cell_q]
    exact va_copied (fun z => va_rf z) cA cA f g h4
  · cases hy : f (sp.toNatClampNeg + i) with
    | none => exact Or.inl rfl
    | some y => exact Or.inr ⟨y, RX13, rfl, rfl, x_anyH hK hG hI (h6 i hi y hy)⟩
end XB2
