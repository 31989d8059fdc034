/-! rows over the clean heap -/
set_option maxRecDepth 100000
abbrev xRm (fr lo mc ms : Nat) : Room := { frames := fr, cells := mc, slots := ms, locals := lo }
def xX (p : Program) (s : State) (m : MethodId) (args : Array Value) (meth : Method) (c : Code) (own : String) (cc : ByteArray) (nL : Nat) (ret : Option FieldType) : Prop := p.tables.exec = Jvm.exec ∧ c.code = cc ∧ meth.sig.returnType = ret ∧ c.maxLocals = nL ∧ (∀ w ∈ lw_all, w.before args s = true) ∧ s.vm.findClass own = some m.cls ∧ meth.locks = false
section XROWS
variable {p : Program} {l : Launch} {e : Env} {R : Room} {s : State} {m : MethodId} {args : Array Value} {below : List Frame} {meth : Method} {c : Code} {H : Heap} {locs : List Loc} {cells slots : Nat} {Q : State → Prop}
variable {own : String} {cc : ByteArray} {nL : Nat} {ret : Option FieldType} {pc : Nat} {ls : Array Slot} {rest : List Value} {D : va_G} {dT : Nat → ClassId} {A : Nat → Prop} {C : XH} {a : Nat}
theorem x_get (X : xX p s m args meth c own cc nL ret) (hK : va_K D aCl (aT dT) s) (hI : xI D dT A s.heap C H locs) (ci k : Nat) {v : Value} {Cn ref : String} {T : u_T} {N index : Nat} (hc : aCl[ci]? = some (Cn, T, N)) (hin : ∀ w ∈ u_ws Cn T N, w ∈ lw_all) (hk : Nat.blt k N = true) (hlink : Cond.fieldLink own index ref (T k).2.1 (T k).2.2.1 ∈ lw_all) (hT : (T k).1 = ref) (hv : xgv C (xis ci) a k = some v) (hdg : decode cc pc = .ok (.getfield index, 3))
    (kk : W p l e R s m args below meth c H locs cells slots Q (F0 m (pc + 3) ls (v :: rest))) : W p l e R s m args below meth c H locs cells slots Q (F0 m pc ls (.ref a :: rest)) := by
  have hk : k < N := Nat.le_of_ble_eq_true hk
  obtain ⟨ci', fs, h1, h2, h3⟩ := xgv_spec hv
  have h4 := xis_eq h2
  subst h4
  exact va_get (ci := ci') (C := Cn) (T := T) (N := N) (ref := ref) X.1 X.2.1 X.2.2.2.2.1 hin X.2.2.2.2.2.1 hK (hI.1.one h1) 0 rfl hc k hk (X.2.2.2.2.1 _ hlink) (fun x hx => by rw [hT] at hx; exact hx) h3 hdg kk
theorem x_getH (X : xX p s m args meth c own cc nL ret) (hK : va_K D aCl (aT dT) s) (hI : xI D dT A s.heap C H locs) (k : Nat) {v : Value} {ref : String} {index : Nat} (hk : k = 0 ∨ k = 1) (hlink : Cond.fieldLink own index ref (TX13 k).2.1 (TX13 k).2.2.1 ∈ lw_all) (hsame : ∀ x, s.fieldFound? RX13 (TX13 k).2.1 (TX13 k).2.2.1 = some x → s.fieldFound? ref (TX13 k).2.1 (TX13 k).2.2.1 = some x) (hv : xgv C xisH a k = some v) (hdg : decode cc pc = .ok (.getfield index, 3))
    (kk : W p l e R s m args below meth c H locs cells slots Q (F0 m (pc + 3) ls (v :: rest))) : W p l e R s m args below meth c H locs cells slots Q (F0 m pc ls (.ref a :: rest)) := by
  obtain ⟨ci, fs, h1, h2, h3⟩ := xgv_spec hv
  have h4 : ci = 13 ∨ ci = 14 ∨ ci = 15 ∨ ci = 16 ∨ ci = 17 ∨ ci = 18 ∨ ci = 19 := by
    simp only [xisH, Bool.and_eq_true] at h2
    have h5 := Nat.le_of_ble_eq_true h2.1
    have h6 := Nat.le_of_ble_eq_true h2.2
    omega
  have hk2 : k < 2 := by omega
  rcases hk with rfl | rfl
  · rcases h4 with rfl | rfl | rfl | rfl | rfl | rfl | rfl
    · exact va_get (ci := 13) (C := RX13) (T := TX13) (N := 2) (ref := ref) X.1 X.2.1 X.2.2.2.2.1 in_X13 X.2.2.2.2.2.1 hK (hI.1.one h1) 0 rfl rfl 0 hk2 (X.2.2.2.2.1 _ hlink) hsame h3 hdg kk
    · exact va_get (ci := 14) (C := RX14) (T := TX14) (N := 2) (ref := ref) X.1 X.2.1 X.2.2.2.2.1 in_X14 X.2.2.2.2.2.1 hK (hI.1.one h1) 0 rfl rfl 0 hk2 (X.2.2.2.2.1 _ hlink) hsame h3 hdg kk
    · exact va_get (ci := 15) (C := RX15) (T := TX15) (N := 2) (ref := ref) X.1 X.2.1 X.2.2.2.2.1 in_X15 X.2.2.2.2.2.1 hK (hI.1.one h1) 0 rfl rfl 0 hk2 (X.2.2.2.2.1 _ hlink) hsame h3 hdg kk
    · exact va_get (ci := 16) (C := RX16) (T := TX16) (N := 2) (ref := ref) X.1 X.2.1 X.2.2.2.2.1 in_X16 X.2.2.2.2.2.1 hK (hI.1.one h1) 0 rfl rfl 0 hk2 (X.2.2.2.2.1 _ hlink) hsame h3 hdg kk
    · exact va_get (ci := 17) (C := RX17) (T := TX17) (N := 2) (ref := ref) X.1 X.2.1 X.2.2.2.2.1 in_X17 X.2.2.2.2.2.1 hK (hI.1.one h1) 0 rfl rfl 0 hk2 (X.2.2.2.2.1 _ hlink) hsame h3 hdg kk
    · exact va_get (ci := 18) (C := RX18) (T := TX18) (N := 2) (ref := ref) X.1 X.2.1 X.2.2.2.2.1 in_X18 X.2.2.2.2.2.1 hK (hI.1.one h1) 0 rfl rfl 0 hk2 (X.2.2.2.2.1 _ hlink) hsame h3 hdg kk
    · exact va_get (ci := 19) (C := RX19) (T := TX19) (N := 2) (ref := ref) X.1 X.2.1 X.2.2.2.2.1 in_X19 X.2.2.2.2.2.1 hK (hI.1.one h1) 0 rfl rfl 0 hk2 (X.2.2.2.2.1 _ hlink) hsame h3 hdg kk
  · rcases h4 with rfl | rfl | rfl | rfl | rfl | rfl | rfl
    · exact va_get (ci := 13) (C := RX13) (T := TX13) (N := 2) (ref := ref) X.1 X.2.1 X.2.2.2.2.1 in_X13 X.2.2.2.2.2.1 hK (hI.1.one h1) 0 rfl rfl 1 hk2 (X.2.2.2.2.1 _ hlink) hsame h3 hdg kk
    · exact va_get (ci := 14) (C := RX14) (T := TX14) (N := 2) (ref := ref) X.1 X.2.1 X.2.2.2.2.1 in_X14 X.2.2.2.2.2.1 hK (hI.1.one h1) 0 rfl rfl 1 hk2 (X.2.2.2.2.1 _ hlink) hsame h3 hdg kk
    · exact va_get (ci := 15) (C := RX15) (T := TX15) (N := 2) (ref := ref) X.1 X.2.1 X.2.2.2.2.1 in_X15 X.2.2.2.2.2.1 hK (hI.1.one h1) 0 rfl rfl 1 hk2 (X.2.2.2.2.1 _ hlink) hsame h3 hdg kk
    · exact va_get (ci := 16) (C := RX16) (T := TX16) (N := 2) (ref := ref) X.1 X.2.1 X.2.2.2.2.1 in_X16 X.2.2.2.2.2.1 hK (hI.1.one h1) 0 rfl rfl 1 hk2 (X.2.2.2.2.1 _ hlink) hsame h3 hdg kk
    · exact va_get (ci := 17) (C := RX17) (T := TX17) (N := 2) (ref := ref) X.1 X.2.1 X.2.2.2.2.1 in_X17 X.2.2.2.2.2.1 hK (hI.1.one h1) 0 rfl rfl 1 hk2 (X.2.2.2.2.1 _ hlink) hsame h3 hdg kk
    · exact va_get (ci := 18) (C := RX18) (T := TX18) (N := 2) (ref := ref) X.1 X.2.1 X.2.2.2.2.1 in_X18 X.2.2.2.2.2.1 hK (hI.1.one h1) 0 rfl rfl 1 hk2 (X.2.2.2.2.1 _ hlink) hsame h3 hdg kk
    · exact va_get (ci := 19) (C := RX19) (T := TX19) (N := 2) (ref := ref) X.1 X.2.1 X.2.2.2.2.1 in_X19 X.2.2.2.2.2.1 hK (hI.1.one h1) 0 rfl rfl 1 hk2 (X.2.2.2.2.1 _ hlink) hsame h3 hdg kk
theorem x_put (X : xX p s m args meth c own cc nL ret) (hK : va_K D aCl (aT dT) s) (hI : xI D dT A s.heap C H locs) (ci k : Nat) {v : Value} {C' : XH} {Cn ref : String} {T : u_T} {N index : Nat} (hc : aCl[ci]? = some (Cn, T, N)) (hin : ∀ w ∈ u_ws Cn T N, w ∈ lw_all) (ty : Nat → FieldType) (hty : ∀ k, k < N → parseFieldDescriptor (T k).2.2.1 = some (ty k)) (hnm : ∀ a, a < N → ∀ b, b < N → a ≠ b → (T a).2.1 ≠ (T b).2.1) (hk : Nat.blt k N = true) (hlink : Cond.fieldLink own index ref (T k).2.1 (T k).2.2.1 ∈ lw_all) (hT : (T k).1 = ref) (hF : (T k).2.2.2 = false) (hn : narrow (ty k) v = v) (hfit : fits (ty k) v = true) (hv : xpv C (xis ci) a k v = some C') (hdg : decode cc pc = .ok (.putfield index, 3))
    (kk : ∀ (H1 : Heap) (locs1 : List Loc), xI D dT A s.heap C' H1 locs1 → W p l e R s m args below meth c H1 locs1 cells slots Q (F0 m (pc + 3) ls rest)) : W p l e R s m args below meth c H locs cells slots Q (F0 m pc ls (v :: .ref a :: rest)) := by
  have hk : k < N := Nat.le_of_ble_eq_true hk
  have hts := X.2.2.2.2.1
  obtain ⟨ci', fs, h1, h2, hl, rfl⟩ := xpv_spec hv
  have h4 := xis_eq h2
  subst h4
  have hap := va_apart (own := own) hts hin ty hty hnm hK hc
  obtain ⟨r, g1, cell, q1, q2, q3, q4⟩ := hI.1 a _ h1
  have hr : r = (Cn, T, N) := Option.some.inj (g1.symm.trans hc)
  subst hr
  obtain ⟨hS, hfc, kC, hkC, hkind⟩ := hK.1 ci' _ hc
  obtain ⟨cf, kf, fi, f, hi, hsl⟩ := hS k hk
  have hlay := hts _ (hin _ (u_in_lay hk))
  unfold u_lay at hlay
  rw [if_neg (by rw [hF]; decide)] at hlay
  have hst := (u_facts hfc hkC (u_lays hts hin hk) hi).1
  have h6 := u_store hfc hkC hkind hlay hi (hty k hk) hn hfit
  refine W.putK X.1 X.2.1 (f := f) ⟨X.2.2.2.2.2.1, hts _ hlink, ⟨_, _, _, by rw [← hT]; exact hi⟩, hst⟩ (by rw [q2]; exact h6) q1 q3 (by rw [hsl]; exact k2_hasslot (q4 k hk)) rfl rfl hdg fun H' e1 e2 e3 => ?_
  rw [hsl] at e1 ⊢
  exact kk H' _ (hI.upd h1 ⟨_, hc, t_OB.to (V := updV (vp_V fs) k v) ⟨_, e1, q2, q3, t_set q4 hap hk v⟩ (fun j _ => vp_updV_set hl v j)⟩ e3 (hI.2.2.put e2 e3 (hI.2.1 a _ h1)))
theorem x_putF (X : xX p s m args meth c own cc nL ret) (hK : va_K D aCl (aT dT) s) (hI : xI D dT A s.heap C H locs) (ci k : Nat) {v : Value} {C' : XH} {Cn : String} {T : u_T} {N index : Nat} (hc : aCl[ci]? = some (Cn, T, N)) (hin : ∀ w ∈ u_ws Cn T N, w ∈ lw_all) (ty : Nat → FieldType) (hty : ∀ k, k < N → parseFieldDescriptor (T k).2.2.1 = some (ty k)) (hnm : ∀ a, a < N → ∀ b, b < N → a ≠ b → (T a).2.1 ≠ (T b).2.1) (hk : Nat.blt k N = true) (hlink : Cond.fieldLink own index own (T k).2.1 (T k).2.2.1 ∈ lw_all) (hT : (T k).1 = own) (hF : (T k).2.2.2 = true) (hini : meth.name = "<init>") (hn : narrow (ty k) v = v) (hfit : fits (ty k) v = true) (hv : xpv C (xis ci) a k v = some C') (hdg : decode cc pc = .ok (.putfield index, 3))
    (kk : ∀ (H1 : Heap) (locs1 : List Loc), xI D dT A s.heap C' H1 locs1 → W p l e R s m args below meth c H1 locs1 cells slots Q (F0 m (pc + 3) ls rest)) : W p l e R s m args below meth c H locs cells slots Q (F0 m pc ls (v :: .ref a :: rest)) := by
  have hk : k < N := Nat.le_of_ble_eq_true hk
  have hts := X.2.2.2.2.1
  have hown := X.2.2.2.2.2.1
  obtain ⟨ci', fs, h1, h2, hl, rfl⟩ := xpv_spec hv
  have h4 := xis_eq h2
  subst h4
  have hap := va_apart (own := own) hts hin ty hty hnm hK hc
  obtain ⟨r, g1, cell, q1, q2, q3, q4⟩ := hI.1 a _ h1
  have hr : r = (Cn, T, N) := Option.some.inj (g1.symm.trans hc)
  subst hr
  obtain ⟨hS, hfc, kC, hkC, hkind⟩ := hK.1 ci' _ hc
  obtain ⟨cf, kf, fi, f, hi, hsl⟩ := hS k hk
  have hlay := hts _ (hin _ (u_in_lay hk))
  unfold u_lay at hlay
  rw [if_pos hF] at hlay
  have hst := (u_facts hfc hkC (u_lays hts hin hk) hi).1
  have hcf : m.cls = cf := by
    obtain ⟨_, _, c', _, _, _, -, -, hf', -, -, -, hown2, -⟩ := Cond.laysFinal_spec hlay
    have e1 : c' = cf := by have := hi.symm.trans hf'; simp at this; exact this.1.symm
    rw [hT] at hown2
    rw [← e1]; exact Option.some.inj (hown.symm.trans hown2)
  have h6 := u_fits hfc hkC hkind (Or.inr hlay) hi (hty k hk) hn hfit
  refine W.putFinK X.1 X.2.1 hown (hts _ hlink) (by rw [hT] at hi; exact hi) hst hcf hini (by rw [q2]; exact h6) q1 q3 (by rw [hsl]; exact k2_hasslot (q4 k hk)) rfl rfl hdg fun H' e1 e2 e3 => ?_
  rw [hsl] at e1 ⊢
  exact kk H' _ (hI.upd h1 ⟨_, hc, t_OB.to (V := updV (vp_V fs) k v) ⟨_, e1, q2, q3, t_set q4 hap hk v⟩ (fun j _ => vp_updV_set hl v j)⟩ e3 (hI.2.2.put e2 e3 (hI.2.1 a _ h1)))
theorem x_iald (X : xX p s m args meth c own cc nL ret) (hK : va_K D aCl (aT dT) s) (hI : xI D dT A s.heap C H locs) {i v : Int32} (hv : xai C 0 a i = some v) (hdg : decode cc pc = .ok (.iaload, 1))
    (kk : W p l e R s m args below meth c H locs cells slots Q (F0 m (pc + 1) ls (.int v :: rest))) : W p l e R s m args below meth c H locs cells slots Q (F0 m pc ls (.int i :: .ref a :: rest)) := by
  obtain ⟨n, f, h1, h2, rfl⟩ := xai_spec hv
  exact va_iald X.1 X.2.1 hK (hI.1.one h1) 0 0 rfl rfl h2 hdg kk
theorem x_bald (X : xX p s m args meth c own cc nL ret) (hK : va_K D aCl (aT dT) s) (hI : xI D dT A s.heap C H locs) {i v : Int32} (hv : xai C 2 a i = some v) (hdg : decode cc pc = .ok (.baload, 1))
    (kk : W p l e R s m args below meth c H locs cells slots Q (F0 m (pc + 1) ls (.int v :: rest))) : W p l e R s m args below meth c H locs cells slots Q (F0 m pc ls (.int i :: .ref a :: rest)) := by
  obtain ⟨n, f, h1, h2, rfl⟩ := xai_spec hv
  exact va_bald X.1 X.2.1 hK (hI.1.one h1) 0 2 rfl rfl h2 hdg kk
theorem x_sald (X : xX p s m args meth c own cc nL ret) (hK : va_K D aCl (aT dT) s) (hI : xI D dT A s.heap C H locs) {i v : Int32} (hv : xai C 3 a i = some v) (hdg : decode cc pc = .ok (.saload, 1))
    (kk : W p l e R s m args below meth c H locs cells slots Q (F0 m (pc + 1) ls (.int v :: rest))) : W p l e R s m args below meth c H locs cells slots Q (F0 m pc ls (.int i :: .ref a :: rest)) := by
  obtain ⟨n, f, h1, h2, rfl⟩ := xai_spec hv
  exact va_sald X.1 X.2.1 hK (hI.1.one h1) 0 3 rfl rfl h2 hdg kk
theorem x_lald (X : xX p s m args meth c own cc nL ret) (hK : va_K D aCl (aT dT) s) (hI : xI D dT A s.heap C H locs) {i : Int32} {v : Int64} (hv : xal C a i = some v) (hdg : decode cc pc = .ok (.laload, 1))
    (kk : W p l e R s m args below meth c H locs cells slots Q (F0 m (pc + 1) ls (.long v :: rest))) : W p l e R s m args below meth c H locs cells slots Q (F0 m pc ls (.int i :: .ref a :: rest)) := by
  obtain ⟨n, f, h1, h2, rfl⟩ := xal_spec hv
  exact va_lald X.1 X.2.1 hK (hI.1.one h1) 0 1 rfl rfl h2 hdg kk
theorem x_aald (X : xX p s m args meth c own cc nL ret) (hK : va_K D aCl (aT dT) s) (hI : xI D dT A s.heap C H locs) (t : Nat) {ty : FieldType} (ht : (aT dT)[t]? = some (dT t, ty)) (hty : ty.isReference = true) {i : Int32} {v : Nat} (hv : xar C t a i = some v) (hdg : decode cc pc = .ok (.aaload, 1))
    (kk : W p l e R s m args below meth c H locs cells slots Q (F0 m (pc + 1) ls (.ref v :: rest))) : W p l e R s m args below meth c H locs cells slots Q (F0 m pc ls (.int i :: .ref a :: rest)) := by
  obtain ⟨n, f, h1, h2, h3⟩ := xar_spec hv
  have hlt : i.toNatClampNeg < n := Nat.not_le.mp fun q => h2 (Or.inr q)
  exact W.aald (v := .ref v) (ty := ty) X.1 X.2.1 (hI.1 a _ h1) ((hK.2 t _ ht).1 n (fun j => va_rf (f j))) hty (fun q => by cases q) (by show ¬ (i < 0 ∨ (arrV _ _ _).slots.size ≤ _); rw [arrV_size]; exact h2) (by show (arrV _ _ _).slots[_]? = _; rw [arrV_read _ _ hlt, h3]; rfl) rfl rfl hdg kk
theorem x_alen (X : xX p s m args meth c own cc nL ret) (hK : va_K D aCl (aT dT) s) (hI : xI D dT A s.heap C H locs) (t : Nat) {ty : FieldType} (ht : (aT dT)[t]? = some (dT t, ty)) {v : Int32} (hv : xan C t a = some v) (hdg : decode cc pc = .ok (.arraylength, 1))
    (kk : W p l e R s m args below meth c H locs cells slots Q (F0 m (pc + 1) ls (.int v :: rest))) : W p l e R s m args below meth c H locs cells slots Q (F0 m pc ls (.ref a :: rest)) := by
  obtain ⟨x, h1, rfl⟩ := xan_spec hv
  exact va_alen X.1 X.2.1 hK (hI.1.one h1) 0 t rfl ht rfl hdg kk
theorem x_iast (X : xX p s m args meth c own cc nL ret) (hK : va_K D aCl (aT dT) s) (hI : xI D dT A s.heap C H locs) {i v : Int32} {C' : XH} (hv : xsi C a i v = some C') (hdg : decode cc pc = .ok (.iastore, 1))
    (kk : ∀ (H1 : Heap) (locs1 : List Loc), xI D dT A s.heap C' H1 locs1 → W p l e R s m args below meth c H1 locs1 cells slots Q (F0 m (pc + 1) ls rest)) : W p l e R s m args below meth c H locs cells slots Q (F0 m pc ls (.int v :: .int i :: .ref a :: rest)) := by
  obtain ⟨n, f, h1, h2, rfl⟩ := xsi_spec hv
  refine W.iast X.1 X.2.1 (hI.1 a _ h1) ((hK.2 0 _ rfl).1 n (fun j => .int (f j))) (fun q => by cases q) (by show ¬ (i < 0 ∨ (arrV _ _ _).slots.size ≤ _); rw [arrV_size]; exact h2) rfl rfl hdg fun H1 e z oq => ?_
  refine kk H1 _ (hI.upd h1 ?_ oq (hI.2.2.put z oq (hI.2.1 a _ h1)))
  show H1[a]? = some (vp_cell _ _)
  rw [e]
  show some ((vp_cell (dT 0) (n, .inl f)).setSlot _ _) = _
  rw [vp_cell_i, vp_cell_i, arrV_store]
  congr 2
  funext q
  by_cases hq : q = i.toNatClampNeg
  · subst hq
    simp [updV, upd]
  · simp [updV, upd, hq]
theorem x_aast (X : xX p s m args meth c own cc nL ret) (hK : va_K D aCl (aT dT) s) (hI : xI D dT A s.heap C H locs) (t : Nat) {E : String} (ht : (aT dT)[t]? = some (dT t, .object E)) {i : Int32} {v : Nat} {C' : XH} (hany : va_Any E s H v) (hv : xsr C t a i v = some C') (hdg : decode cc pc = .ok (.aastore, 1))
    (kk : ∀ (H1 : Heap) (locs1 : List Loc), xI D dT A s.heap C' H1 locs1 → W p l e R s m args below meth c H1 locs1 cells slots Q (F0 m (pc + 1) ls rest)) : W p l e R s m args below meth c H locs cells slots Q (F0 m pc ls (.ref v :: .int i :: .ref a :: rest)) := by
  obtain ⟨n, f, h1, h2, rfl⟩ := xsr_spec hv
  have hlt : i.toNatClampNeg < n := Nat.not_le.mp fun q => h2 (Or.inr q)
  have h0 : ¬ i < 0 := fun q => h2 (Or.inl q)
  obtain ⟨cellV, g1, g2, ⟨kV, g3⟩, g4⟩ := hany
  obtain ⟨kA, comp, k1, k2, k3, -⟩ := (hK.2 t _ ht).2
  obtain ⟨kC, hkC, -⟩ := Vm.findClass_spec k3
  refine W.aast X.1 X.2.1 (hI.1 a _ h1) (fun q h => by cases h) (fun h => by cases h) k1 k2 rfl hkC ⟨h0, by show _ < (arrV _ _ _).slots.size; rw [arrV_size]; exact hlt⟩ g1 (fun q h => by rw [h] at g2; cases g2) g3 (g4 comp k3) rfl rfl hdg fun H1 e z oq => ?_
  refine kk H1 _ (hI.upd h1 ?_ oq (hI.2.2.put z oq (hI.2.1 a _ h1)))
  show H1[a]? = some (vp_cell _ _)
  rw [e]
  show some ((vp_cell (dT t) (n, .inr (.inr (.inr (.inr f))))).setSlot _ _) = _
  rw [vp_cell_q, vp_cell_q, arrV_store]
  congr 2
  funext q
  by_cases hq : q = i.toNatClampNeg
  · subst hq
    simp [updV, va_up, va_rf]
  · simp [updV, va_up, hq]
/-- new C -/
theorem x_new (X : xX p s m args meth c own cc nL ret) (hK : va_K D aCl (aT dT) s) (hI : xI D dT A s.heap C H locs) (hA : ∀ q : Nat, s.heap.size ≤ q → A q) (ci : Nat) {Cn : String} {T : u_T} {N index : Nat} {fs : List Value} (hc : aCl[ci]? = some (Cn, T, N)) (hin : ∀ w ∈ u_ws Cn T N, w ∈ lw_all) (ty : Nat → FieldType) (hty : ∀ k, k < N → parseFieldDescriptor (T k).2.2.1 = some (ty k)) (hcl : Cond.classLink own index Cn ∈ lw_all) (hinst : Cond.instantiable Cn N ∈ lw_all) (hini : Cond.initialized Cn ∈ lw_all) (hfs : (List.range N).all (fun j => decide (defaultValue (ty j) = vp_V fs j)) = true) (hcells : cells + 1 ≤ R.cells) (hslots : slots + N ≤ R.slots) {K : Nat → XH → Prop} (hv : xnew C (.inr (ci, fs)) K) (hdg : decode cc pc = .ok (.new index, 3))
    (kk : ∀ (q : Nat) (C' : XH) (H1 : Heap), K q C' → xI D dT A s.heap C' H1 locs → W p l e R s m args below meth c H1 locs (cells + 1) (slots + N) Q (F0 m (pc + 3) ls (.ref q :: rest))) : W p l e R s m args below meth c H locs cells slots Q (F0 m pc ls rest) := by
  have hts := X.2.2.2.2.1
  have hKn := hK.1 ci _ hc
  refine W.newcK X.1 X.2.1 X.2.2.2.2.2.1 (hts _ hcl) (hts _ hinst) (hts _ hini) rfl hdg hcells hslots hKn.2.1 rfl fun H1 kC hkC e1 z1 o1 => ?_
  have hfs' : ∀ j, j < N → defaultValue (ty j) = vp_V fs j := fun j hj => of_decide_eq_true (List.all_eq_true.mp hfs j (List.mem_range.mpr hj))
  obtain ⟨hn, hI'⟩ := hI.new (e := .inr (ci, fs)) hA ⟨_, hc, (u_born ty hts hin hKn hkC e1 hty).to hfs'⟩ o1 (by omega)
  exact kk H.size _ H1 (hv _ hn) hI'
end XROWS
