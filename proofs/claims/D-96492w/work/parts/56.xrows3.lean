/-! rows: references that may be null -/
set_option maxRecDepth 100000
abbrev imax (x y : Int32) : Int32 := if x < y then y else x
abbrev imin (x y : Int32) : Int32 := if y < x then y else x
abbrev iabs (x : Int32) : Int32 := if 0 ≤ x then x else 0 - x
section XR3
variable {p : Program} {l : Launch} {e : Env} {R : Room} {s : State} {m : MethodId} {args : Array Value} {below : List Frame} {meth : Method} {c : Code} {H : Heap} {locs : List Loc} {cells slots : Nat} {Q : State → Prop}
variable {cc : ByteArray} {pc : Nat} {ls : Array Slot} {rest : List Value}
theorem x_aloado_n (hexec : p.tables.exec = Jvm.exec) (hb : c.code = cc) {k : Fin 4} {i : Nat} {o : Option Nat} (hdg : decode cc pc = .ok (.aload_n k, 1)) (hi : (k : Nat) = i) (hl : ls[i]? = some (.val (va_rf o)))
    (kk : W p l e R s m args below meth c H locs cells slots Q (F0 m (pc + 1) ls (va_rf o :: rest))) : W p l e R s m args below meth c H locs cells slots Q (F0 m pc ls (rest)) := by
  cases o with
  | some x => exact lv_aload_n hexec hb hdg hi hl kk
  | none =>
    subst hi
    have hl : ls[k.val]? = some (.val .null) := hl
    have kk : W p l e R s m args below meth c H locs cells slots Q (F0 m (pc + 1) ls (.null :: rest)) := kk
    intro T hT X
    obtain ⟨t, a, b⟩ := kk T hT X
    refine ⟨t, ?_, b⟩
    jvm_step X.here [X.here.top, hexec, hb, hdg, hl, Value.isRef]
    exact a
theorem x_aloado (hexec : p.tables.exec = Jvm.exec) (hb : c.code = cc) {i : Nat} {o : Option Nat} (hdg : decode cc pc = .ok (.aload i, 2)) (hl : ls[i]? = some (.val (va_rf o)))
    (kk : W p l e R s m args below meth c H locs cells slots Q (F0 m (pc + 2) ls (va_rf o :: rest))) : W p l e R s m args below meth c H locs cells slots Q (F0 m pc ls (rest)) := by
  cases o with
  | some x => exact lv_aload hexec hb hdg hl kk
  | none =>
    have hl : ls[i]? = some (.val .null) := hl
    have kk : W p l e R s m args below meth c H locs cells slots Q (F0 m (pc + 2) ls (.null :: rest)) := kk
    intro T hT X
    obtain ⟨t, a, b⟩ := kk T hT X
    refine ⟨t, ?_, b⟩
    jvm_step X.here [X.here.top, hexec, hb, hdg, hl, Value.isRef]
    exact a
theorem x_astoreo_n (hexec : p.tables.exec = Jvm.exec) (hb : c.code = cc) {k : Fin 4} {i nL : Nat} {o : Option Nat} {lv lv' : List (Nat × Value)} (hdg : decode cc pc = .ok (.astore_n k, 1)) (hi : (k : Nat) = i) (h : lv_has ls nL lv) (hn : i < nL) (hl : (i, va_rf o) :: lv.filter (fun q => !(q.1 == i) && !(q.1 + 1 == i && q.2.category == 2)) = lv')
    (kk : ∀ ls' : Array Slot, lv_has ls' nL lv' → W p l e R s m args below meth c H locs cells slots Q (F0 m (pc + 1) ls' rest)) : W p l e R s m args below meth c H locs cells slots Q (F0 m pc ls (va_rf o :: rest)) := by
  cases o with
  | some x => exact lv_astore_n hexec hb hdg hi h hn hl kk
  | none =>
    subst hi
    obtain ⟨ls', e', h'⟩ := lv_store1 (v := .null) h hn rfl
    show W p l e R s m args below meth c H locs cells slots Q (F0 m pc ls (.null :: rest))
    intro T hT X
    obtain ⟨t, a, b⟩ := kk ls' (hl ▸ h') T hT X
    refine ⟨t, ?_, b⟩
    jvm_step X.here [X.here.top, ↓top_set X.here.top, hexec, hb, hdg, e', Value.isRef]
    exact a
theorem x_astoreo (hexec : p.tables.exec = Jvm.exec) (hb : c.code = cc) {i nL : Nat} {o : Option Nat} {lv lv' : List (Nat × Value)} (hdg : decode cc pc = .ok (.astore i, 2)) (h : lv_has ls nL lv) (hn : i < nL) (hl : (i, va_rf o) :: lv.filter (fun q => !(q.1 == i) && !(q.1 + 1 == i && q.2.category == 2)) = lv')
    (kk : ∀ ls' : Array Slot, lv_has ls' nL lv' → W p l e R s m args below meth c H locs cells slots Q (F0 m (pc + 2) ls' rest)) : W p l e R s m args below meth c H locs cells slots Q (F0 m pc ls (va_rf o :: rest)) := by
  cases o with
  | some x => exact lv_astore hexec hb hdg h hn hl kk
  | none =>
    obtain ⟨ls', e', h'⟩ := lv_store1 (v := .null) h hn rfl
    show W p l e R s m args below meth c H locs cells slots Q (F0 m pc ls (.null :: rest))
    intro T hT X
    obtain ⟨t, a, b⟩ := kk ls' (hl ▸ h') T hT X
    refine ⟨t, ?_, b⟩
    jvm_step X.here [X.here.top, ↓top_set X.here.top, hexec, hb, hdg, e', Value.isRef]
    exact a
end XR3
