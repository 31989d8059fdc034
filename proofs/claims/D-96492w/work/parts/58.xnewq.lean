/-! new arrays of references, an array of arrays -/
set_option maxRecDepth 100000
section XNQ
variable {p : Program} {l : Launch} {e : Env} {R : Room} {s : State} {m : MethodId} {args : Array Value} {below : List Frame} {meth : Method} {c : Code} {H : Heap} {locs : List Loc} {cells slots : Nat} {Q : State → Prop}
variable {own : String} {cc : ByteArray} {nL : Nat} {ret : Option FieldType} {pc : Nat} {ls : Array Slot} {rest : List Value} {D : va_G} {dT : Nat → ClassId} {adK adV : Nat → Nat} {A : Nat → Prop} {C : XH} {a : Nat}
theorem x_AOs (hG : xG adK adV A s s.heap) : va_AO RX5 s := hG.1.2.2.2.1
theorem x_AOr (hG : xG adK adV A s s.heap) : va_AO RX2 s := hG.1.2.2.2.2.1
theorem x_AOh (hG : xG adK adV A s s.heap) : va_AO RX13 s := hG.1.2.2.2.2.2.1
theorem x_newq (t : Nat) {Cn : String} {index : Nat} (X : xX p s m args meth c own cc nL ret) (hK : va_K D aCl (aT dT) s) (hI : xI D dT A s.heap C H locs) (hA : ∀ q : Nat, s.heap.size ≤ q → A q) (ht : (aT dT)[t]? = some (dT t, .object Cn)) (hover : va_AO Cn s) (hlink : Cond.classLink own index Cn ∈ lw_all) {n : Int32} {N : Nat} (hn : ¬ n < 0) (hN : n.toNatClampNeg = N) (hbytes : Nat.ble (N * 4) 536870912 = true) (hcells : cells + 1 ≤ R.cells) (hslots : slots + N ≤ R.slots) {K : Nat → XH → Prop} (hv : xnew C (.inl (t, N, .inr (.inr (.inr (.inr (fun _ => none)))))) K) (hdg : decode cc pc = .ok (.anewarray index, 3))
    (kk : ∀ (q : Nat) (C' : XH) (H1 : Heap), K q C' → xI D dT A s.heap C' H1 locs → W p l e R s m args below meth c H1 locs (cells + 1) (slots + N) Q (F0 m (pc + 3) ls (.ref q :: rest))) : W p l e R s m args below meth c H locs cells slots Q (F0 m pc ls (.int n :: rest)) := by
  subst hN
  refine W.anew X.1 X.2.1 X.2.2.2.2.2.1 (X.2.2.2.2.1 _ hlink) (va_AO.use hover) rfl hdg rfl hn (Nat.le_of_ble_eq_true hbytes) hcells hslots fun cA kA comp f1 f2 f3 f4 => ?_
  have hcA : cA = dT t := by
    obtain ⟨kA', comp', r1, r2, r3, r4⟩ := (hK.2 t _ ht).2
    exact Option.some.inj (f1.symm.trans r4)
  subst hcA
  generalize hH1 : H.push ({ cls := dT t, slots := Array.replicate n.toNatClampNeg .null, vm := .none } : Cell) = H1
  have z1 : H1.size = H.size + 1 := by rw [← hH1, Array.size_push]
  have e1 : H1[H.size]? = some (arrV (dT t) n.toNatClampNeg (fun _ => .null)) := by rw [← hH1, Array.getElem?_push_size, ← arrV_new]
  have o1 : ∀ q : Nat, q < H.size → H1[q]? = H[q]? := fun q hq => by rw [← hH1, Array.getElem?_push, if_neg (Nat.ne_of_lt hq)]
  obtain ⟨hn', hI'⟩ := hI.new (e := .inl (t, n.toNatClampNeg, .inr (.inr (.inr (.inr (fun _ => none)))))) hA (show H1[H.size]? = some (vp_cell (dT t) _) by rw [vp_cell_q]; exact e1) o1 (by omega)
  exact kk H.size _ H1 (hv _ hn') hI'
theorem xI.add {H0 : Heap} (hI : xI D dT A H0 C H locs) {q : Nat} {e : XE} (he : va_at D aCl (q, toE dT e) H) (hq : A q) : xI D dT A H0 (xset C q e) H locs := by
  refine ⟨fun b e1 hb => ?_, fun b e1 hb => ?_, hI.2.2⟩
  · by_cases h : b = q
    · subst h
      rw [xset_self] at hb
      cases hb
      exact he
    · rw [xset_ne h] at hb
      exact hI.1 b e1 hb
  · by_cases h : b = q
    · subst h
      exact hq
    · rw [xset_ne h] at hb
      exact hI.2.1 b e1 hb
/-- new int[5][8] -/
def xz8 : XE := .inl (0, 8, .inl (fun _ => 0))
def xnew2 (C : XH) (K : Nat → XH → Prop) : Prop := ∀ q : Nat, (∀ j, j < 6 → C (q + j) = none) → K q (xset (xset (xset (xset (xset (xset C q (.inl (6, 5, .inr (.inr (.inr (.inr (fun j => some (q + 1 + j)))))))) (q + 1) xz8) (q + 2) xz8) (q + 3) xz8) (q + 4) xz8) (q + 5) xz8)
theorem xAO_use {args : Array Value} {s : State} (h : va_Nw (.arrayOver (.array .int)) s) : (Cond.arrayOver (.array .int)).before args s = true := by
  unfold va_Nw Cond.before Cond.holds at h
  unfold Cond.before Cond.holds
  simp only [Cond.value] at h ⊢
  exact h
theorem x_outer (cA : ClassId) (h : Nat) : Jvm.Free.Multi.outerC cA 5 h 5 = arrV cA 5 (fun j => .ref (h + 1 + j)) := by
  rfl
theorem x_new2 {index : Nat} (X : xX p s m args meth c own cc nL ret) (hK : va_K D aCl (aT dT) s) (hG : xG adK adV A s s.heap) (hI : xI D dT A s.heap C H locs) (hA : ∀ q : Nat, s.heap.size ≤ q → A q) (hlink : Cond.classLink own index "[[I" ∈ lw_all) (hcells : cells + 6 ≤ R.cells) (hslots : slots + 45 ≤ R.slots) {K : Nat → XH → Prop} (hv : xnew2 C K) (hdg : decode cc pc = .ok (.multianewarray index 2, 4))
    (kk : ∀ (q : Nat) (C' : XH) (H1 : Heap), K q C' → xI D dT A s.heap C' H1 locs → W p l e R s m args below meth c H1 locs (cells + 6) (slots + 45) Q (F0 m (pc + 4) ls (.ref q :: rest))) : W p l e R s m args below meth c H locs cells slots Q (F0 m pc ls (.int 8 :: .int 5 :: rest)) := by
  intro T hT X0
  have e2 : ("[" ++ (FieldType.array .int).toString) = "[[I" := by decide +kernel
  obtain ⟨vm₁, cA, comp, hW1, hfA, hfC, -, -, X1, step⟩ := X0.multianewarray2F X.1 (own := own) (index := index) (ty := .int) X.2.2.2.2.2.1 (by rw [e2]; exact X.2.2.2.2.1 _ hlink) (xAO_use hG.1.2.2.2.2.2.2.1) (X.2.2.2.2.1 _ q155)
    (g := F0 m pc ls (.int 8 :: .int 5 :: rest)) rfl (by rw [X.2.1]; exact hdg) (n := 5) (k := 8) (rest := rest) rfl (by decide) (by decide) (by decide) (by decide) (by decide) rfl rfl hcells hslots
  have hcA : cA = dT 6 := Option.some.inj (hfA.symm.trans (hK.2 6 _ rfl).2)
  have hcC : comp = dT 0 := Option.some.inj (hfC.symm.trans (hK.2 0 _ rfl).2)
  subst hcA; subst hcC
  have hsz : (T.setVm vm₁).heap.size = H.size := by rw [← hT]; rfl
  have hhp : (T.setVm vm₁).heap = H := by rw [← hT]; rfl
  obtain ⟨f1, f2, f3, f4⟩ := Jvm.Free.Multi.fill_facts (T.setVm vm₁) (dT 6) (dT 0) 5 8 (defaultValue .int) 5
  have fo : ∀ q : Nat, q < H.size → (Jvm.Free.Multi.fill (T.setVm vm₁) (dT 6) (dT 0) 5 8 (defaultValue .int) 5).heap[q]? = H[q]? := fun q hq => by
    rw [Jvm.Free.Multi.fill_old (T.setVm vm₁) (dT 6) (dT 0) _ _ _ (by rw [hsz]; exact hq), hhp]
  have fi : ∀ j : Nat, j < 5 → (Jvm.Free.Multi.fill (T.setVm vm₁) (dT 6) (dT 0) 5 8 (defaultValue .int) 5).heap[H.size + 1 + j]? = some (Jvm.Free.Multi.innerC (dT 0) 8 (defaultValue .int)) := fun j hj => by
    rw [← hsz]
    exact Jvm.Free.Multi.fill_inner (T.setVm vm₁) (dT 6) (dT 0) _ _ _ _ j hj
  rw [hsz] at f1 f2
  have hn : ∀ j, j < 6 → C (H.size + j) = none := by
    intro j _
    cases h : C (H.size + j) with
    | none => rfl
    | some e1 => exact absurd (hI.1 _ _ h).lt (by omega)
  have hA' : ∀ j, A (H.size + j) := fun j => hA _ (Nat.le_trans hI.2.2.1 (Nat.le_add_right _ _))
  have hin : ∀ j : Nat, j < 5 → va_at D aCl (H.size + 1 + j, toE dT xz8) (Jvm.Free.Multi.fill (T.setVm vm₁) (dT 6) (dT 0) 5 8 (defaultValue .int) 5).heap := fun j hj => by
    show _ = some (vp_cell (dT 0) _)
    rw [fi j hj]
    rfl
  have hI0 := hI.more (H1 := (Jvm.Free.Multi.fill (T.setVm vm₁) (dT 6) (dT 0) 5 8 (defaultValue .int) 5).heap) fo ⟨Nat.le_trans hI.2.2.1 (by rw [f1]; omega), fun q h1 h2 => (fo q (Nat.lt_of_lt_of_le h1 hI.2.2.1)).trans (hI.2.2.2.1 q h1 h2), hI.2.2.2.2⟩
  have hI1 := hI0.add (q := H.size) (e := .inl (6, 5, .inr (.inr (.inr (.inr (fun j => some (H.size + 1 + j))))))) (show _ = some (vp_cell (dT 6) _) by rw [f2, x_outer, vp_cell_q]; rfl) (hA' 0)
  have hI2 := ((((hI1.add (hin 0 (by decide)) (hA' 1)).add (hin 1 (by decide)) (hA' 2)).add (hin 2 (by decide)) (hA' 3)).add (hin 3 (by decide)) (hA' 4)).add (hin 4 (by decide)) (hA' 5)
  obtain ⟨t9, a1, b1⟩ := kk H.size _ _ (hv H.size hn) hI2 _ rfl X1
  refine ⟨t9, step t9 ?_, b1⟩
  rw [hT]
  exact a1
end XNQ
