set_option maxRecDepth 100000
def x_X20_init (a0 : Nat) (a1 : Nat) (a2 : Nat) (C : XH) (K : XH → Prop) : Prop := obd (xpv C (xis 20) a0 0 (.ref a1)) (fun C1 => obd (xpv C1 (xis 20) a0 1 (.ref a2)) (fun C2 => K C2))
theorem iX20_init : xInf yX20_init cX20_init 3 none 2 := ⟨q958, by decide +kernel⟩
set_option maxHeartbeats 4000000 in
theorem xet_X20_init (l : Launch) (a0 : Nat) (a1 : Nat) (a2 : Nat) (C : XH) (K : XH → Prop) (hs : x_X20_init a0 a1 a2 C K) : xMetv l yX20_init (ws_ yX20_init cX20_init 3 none) 1 24 0 0 C [.ref a0, .ref a1, .ref a2] K := by
  intro D dT adK adV sz
  refine xEnter (own := RX20) (Qc := xQv D dT K) (by decide) rfl (by rfl) ?_
  intro p e s m args below meth c A ls X hnm hK hA hG hI hl
  have hx := X.1
  have hb := X.2.1
  have hts := X.2.2.2.2.1
  have hown := X.2.2.2.2.2.1
  have hl : lv_has ls 3 [(0, .ref a0), (1, .ref a1), (2, .ref a2)] := hl
  unfold x_X20_init at hs
  refine lv_aload_n hx hb dX20_init_0 rfl (lv_at hl 0 rfl) ?_
  refine W.objInit hx hb hown (hts _ q959) (hts _ q136) (hts _ q137) rfl (by rw [X.2.2.2.1]; exact hl.1) rfl dX20_init_1 (Nat.le_of_ble_eq_true rfl) (Nat.le_of_ble_eq_true rfl) ?_
  show W p l e _ s m args below meth c _ _ _ _ _ (F0 m 4 ls [])
  refine lv_aload_n hx hb dX20_init_4 rfl (lv_at hl 0 rfl) ?_
  refine lv_aload_n hx hb dX20_init_5 rfl (lv_at hl 1 rfl) ?_
  obtain ⟨C1, eC1, hs⟩ := hs
  refine x_putF X hK hI 20 0 rfl in_X20 tyX20 tyX20_ok nmX20 rfl q960 rfl rfl hnm rfl rfl eC1 dX20_init_6 (fun H locs hI => ?_)
  refine lv_aload_n hx hb dX20_init_9 rfl (lv_at hl 0 rfl) ?_
  refine lv_aload_n hx hb dX20_init_10 rfl (lv_at hl 2 rfl) ?_
  obtain ⟨C2, eC2, hs⟩ := hs
  refine x_putF X hK hI 20 1 rfl in_X20 tyX20 tyX20_ok nmX20 rfl q961 rfl rfl hnm rfl rfl eC2 dX20_init_11 (fun H locs hI => ?_)
  exact x_retv X hK hI hs (Nat.le_of_ble_eq_true rfl) (Nat.le_of_ble_eq_true rfl) dX20_init_14
def x_X9_length (a0 : Nat) (C : XH) (K : Int32 → XH → Prop) : Prop := obd (xgr C (xis 9) a0 0) (fun ad1 => obd (xan C 2 ad1) (fun v2 => K v2 C))
theorem iX9_length : xInf yX9_length cX9_length 1 (some .int) 0 := ⟨q994, by decide +kernel⟩
set_option maxHeartbeats 4000000 in
theorem xet_X9_length (l : Launch) (a0 : Nat) (C : XH) (K : Int32 → XH → Prop) (hs : x_X9_length a0 C K) : xMeti l yX9_length (ws_ yX9_length cX9_length 1 (some .int)) 0 0 0 0 C [.ref a0] K := by
  intro D dT adK adV sz
  refine xEnter (own := RX9) (Qc := xQi D dT K) (by decide) rfl (by rfl) ?_
  intro p e s m args below meth c A ls X hnm hK hA hG hI hl
  have hx := X.1
  have hb := X.2.1
  have hts := X.2.2.2.2.1
  have hown := X.2.2.2.2.2.1
  have hl : lv_has ls 1 [(0, .ref a0)] := hl
  unfold x_X9_length at hs
  refine lv_aload_n hx hb dX9_length_0 rfl (lv_at hl 0 rfl) ?_
  obtain ⟨ad1, ead1, hs⟩ := hs
  refine x_get (v := .ref ad1) X hK hI 9 0 rfl in_X9 rfl q502 rfl (xgr_spec ead1) dX9_length_1 ?_
  obtain ⟨v2, ev2, hs⟩ := hs
  refine x_alen X hK hI 2 rfl ev2 dX9_length_4 ?_
  exact x_reti X hK hI hs (Nat.le_of_ble_eq_true rfl) (Nat.le_of_ble_eq_true rfl) dX9_length_5
def x_X11_length (a0 : Nat) (C : XH) (K : Int32 → XH → Prop) : Prop := obd (xgr C (xis 11) a0 0) (fun ad1 => obd (xan C 0 ad1) (fun v2 => K v2 C))
theorem iX11_length : xInf yX11_length cX11_length 1 (some .int) 0 := ⟨q997, by decide +kernel⟩
set_option maxHeartbeats 4000000 in
theorem xet_X11_length (l : Launch) (a0 : Nat) (C : XH) (K : Int32 → XH → Prop) (hs : x_X11_length a0 C K) : xMeti l yX11_length (ws_ yX11_length cX11_length 1 (some .int)) 0 0 0 0 C [.ref a0] K := by
  intro D dT adK adV sz
  refine xEnter (own := RX11) (Qc := xQi D dT K) (by decide) rfl (by rfl) ?_
  intro p e s m args below meth c A ls X hnm hK hA hG hI hl
  have hx := X.1
  have hb := X.2.1
  have hts := X.2.2.2.2.1
  have hown := X.2.2.2.2.2.1
  have hl : lv_has ls 1 [(0, .ref a0)] := hl
  unfold x_X11_length at hs
  refine lv_aload_n hx hb dX11_length_0 rfl (lv_at hl 0 rfl) ?_
  obtain ⟨ad1, ead1, hs⟩ := hs
  refine x_get (v := .ref ad1) X hK hI 11 0 rfl in_X11 rfl q523 rfl (xgr_spec ead1) dX11_length_1 ?_
  obtain ⟨v2, ev2, hs⟩ := hs
  refine x_alen X hK hI 0 rfl ev2 dX11_length_4 ?_
  exact x_reti X hK hI hs (Nat.le_of_ble_eq_true rfl) (Nat.le_of_ble_eq_true rfl) dX11_length_5
def x_X12_length (a0 : Nat) (C : XH) (K : Int32 → XH → Prop) : Prop := obd (xgr C (xis 12) a0 0) (fun ad1 => obd (xan C 1 ad1) (fun v2 => K v2 C))
theorem iX12_length : xInf yX12_length cX12_length 1 (some .int) 0 := ⟨q1000, by decide +kernel⟩
set_option maxHeartbeats 4000000 in
theorem xet_X12_length (l : Launch) (a0 : Nat) (C : XH) (K : Int32 → XH → Prop) (hs : x_X12_length a0 C K) : xMeti l yX12_length (ws_ yX12_length cX12_length 1 (some .int)) 0 0 0 0 C [.ref a0] K := by
  intro D dT adK adV sz
  refine xEnter (own := RX12) (Qc := xQi D dT K) (by decide) rfl (by rfl) ?_
  intro p e s m args below meth c A ls X hnm hK hA hG hI hl
  have hx := X.1
  have hb := X.2.1
  have hts := X.2.2.2.2.1
  have hown := X.2.2.2.2.2.1
  have hl : lv_has ls 1 [(0, .ref a0)] := hl
  unfold x_X12_length at hs
  refine lv_aload_n hx hb dX12_length_0 rfl (lv_at hl 0 rfl) ?_
  obtain ⟨ad1, ead1, hs⟩ := hs
  refine x_get (v := .ref ad1) X hK hI 12 0 rfl in_X12 rfl q533 rfl (xgr_spec ead1) dX12_length_1 ?_
  obtain ⟨v2, ev2, hs⟩ := hs
  refine x_alen X hK hI 1 rfl ev2 dX12_length_4 ?_
  exact x_reti X hK hI hs (Nat.le_of_ble_eq_true rfl) (Nat.le_of_ble_eq_true rfl) dX12_length_5
def x_X10_length (a0 : Nat) (C : XH) (K : Int32 → XH → Prop) : Prop := obd (xgr C (xis 10) a0 0) (fun ad1 => obd (xan C 3 ad1) (fun v2 => K v2 C))
theorem iX10_length : xInf yX10_length cX10_length 1 (some .int) 0 := ⟨q1003, by decide +kernel⟩
set_option maxHeartbeats 4000000 in
theorem xet_X10_length (l : Launch) (a0 : Nat) (C : XH) (K : Int32 → XH → Prop) (hs : x_X10_length a0 C K) : xMeti l yX10_length (ws_ yX10_length cX10_length 1 (some .int)) 0 0 0 0 C [.ref a0] K := by
  intro D dT adK adV sz
  refine xEnter (own := RX10) (Qc := xQi D dT K) (by decide) rfl (by rfl) ?_
  intro p e s m args below meth c A ls X hnm hK hA hG hI hl
  have hx := X.1
  have hb := X.2.1
  have hts := X.2.2.2.2.1
  have hown := X.2.2.2.2.2.1
  have hl : lv_has ls 1 [(0, .ref a0)] := hl
  unfold x_X10_length at hs
  refine lv_aload_n hx hb dX10_length_0 rfl (lv_at hl 0 rfl) ?_
  obtain ⟨ad1, ead1, hs⟩ := hs
  refine x_get (v := .ref ad1) X hK hI 10 0 rfl in_X10 rfl q512 rfl (xgr_spec ead1) dX10_length_1 ?_
  obtain ⟨v2, ev2, hs⟩ := hs
  refine x_alen X hK hI 3 rfl ev2 dX10_length_4 ?_
  exact x_reti X hK hI hs (Nat.le_of_ble_eq_true rfl) (Nat.le_of_ble_eq_true rfl) dX10_length_5
def vd_X8_length (b : Nat)  (C : XH) (K : Int32 → XH → Prop) : Prop := obd (xcl C b) (fun ci => if ci = 9 then x_X9_length b  C K else if ci = 10 then x_X10_length b  C K else if ci = 11 then x_X11_length b  C K else if ci = 12 then x_X12_length b  C K else False)
theorem vdc_X8_length {p : Program} {l : Launch} {e : Env} {R : Room} {s : State} {m : MethodId} {args : Array Value} {below : List Frame} {meth : Method} {c : Code} {H : Heap} {locs : List Loc} {cells slots : Nat} {own : String} {cc : ByteArray} {nL : Nat} {ret : Option FieldType} {pc : Nat} {ls : Array Slot} {rest : List Value} {D : va_G} {dT : Nat → ClassId} {adK adV : Nat → Nat} {A : Nat → Prop} {C : XH} {index : Nat} (X : xX p s m args meth c own cc nL ret) (hK : va_K D aCl (aT dT) s) (hA : ∀ q : Nat, s.heap.size ≤ q → A q) (hG : xG adK adV A s s.heap) (hI : xI D dT A s.heap C H locs) (b : Nat)  (K : Int32 → XH → Prop) (hs : vd_X8_length b  C K) (w1 : Cond.methodLink own index ⟨RX8, "length", "()I"⟩ ∈ lw_all) (hR : 0 + 1 ≤ R.frames ∧ 8 + (0 + 11) + 1 ≤ R.locals) (hsz : ls.size = nL) (hrm : (rest.map fun v => v.category).sum ≤ 8) (hdg : decode cc pc = .ok (.invokevirtual index, 3)) (hf : cells + 0 ≤ R.cells ∧ slots + 0 ≤ R.slots) : xCtx p l e R s m args below meth c H locs cells slots 0 0 D dT C pc ls ([] ++ .ref b :: rest) rest (fun D dT A => xQi D dT K A) (.ref b :: []) := by
  obtain ⟨ci, hci, hs⟩ := hs
  obtain ⟨fs, hb⟩ := xcl_spec hci
  by_cases h9 : ci = 9
  · subst h9
    replace hs := ifp rfl hs
    exact x_runA (As := []) X hK hA hG hI hb (q := (RX9, TX9, 1)) rfl (xet_X9_length l b  _ _ hs) iX9_length RX8 w1 q991 (by decide) q992 q993 q110 (by decide +kernel) ⟨Nat.le_trans (Nat.le_of_ble_eq_true rfl) hR.1, Nat.le_trans (Nat.le_of_ble_eq_true rfl) hR.2⟩ rfl hsz rfl hrm hdg hf
  · replace hs := ifn h9 hs
    by_cases h10 : ci = 10
    · subst h10
      replace hs := ifp rfl hs
      exact x_runA (As := []) X hK hA hG hI hb (q := (RX10, TX10, 1)) rfl (xet_X10_length l b  _ _ hs) iX10_length RX8 w1 q991 (by decide) q1001 q1002 q111 (by decide +kernel) ⟨Nat.le_trans (Nat.le_of_ble_eq_true rfl) hR.1, Nat.le_trans (Nat.le_of_ble_eq_true rfl) hR.2⟩ rfl hsz rfl hrm hdg hf
    · replace hs := ifn h10 hs
      by_cases h11 : ci = 11
      · subst h11
        replace hs := ifp rfl hs
        exact x_runA (As := []) X hK hA hG hI hb (q := (RX11, TX11, 1)) rfl (xet_X11_length l b  _ _ hs) iX11_length RX8 w1 q991 (by decide) q995 q996 q112 (by decide +kernel) ⟨Nat.le_trans (Nat.le_of_ble_eq_true rfl) hR.1, Nat.le_trans (Nat.le_of_ble_eq_true rfl) hR.2⟩ rfl hsz rfl hrm hdg hf
      · replace hs := ifn h11 hs
        by_cases h12 : ci = 12
        · subst h12
          replace hs := ifp rfl hs
          exact x_runA (As := []) X hK hA hG hI hb (q := (RX12, TX12, 1)) rfl (xet_X12_length l b  _ _ hs) iX12_length RX8 w1 q991 (by decide) q998 q999 q113 (by decide +kernel) ⟨Nat.le_trans (Nat.le_of_ble_eq_true rfl) hR.1, Nat.le_trans (Nat.le_of_ble_eq_true rfl) hR.2⟩ rfl hsz rfl hrm hdg hf
        · replace hs := ifn h12 hs
          exact hs.elim
def x_X20_ends (a0 : Nat) (C : XH) (K : Int32 → XH → Prop) : Prop := obd (xgi C (xis 20) a0 2) (fun v1 => obd (xgr C (xis 20) a0 0) (fun ad2 => vd_X8_length ad2 C (fun r4 C3 => (if v1 = r4 then K 1 C3 else K 0 C3))))
theorem iX20_ends : xInf yX20_ends cX20_ends 1 (some .boolean) 0 := ⟨q988, by decide +kernel⟩
set_option maxHeartbeats 4000000 in
theorem xet_X20_ends (l : Launch) (a0 : Nat) (C : XH) (K : Int32 → XH → Prop) (hs : x_X20_ends a0 C K) : xMetz l yX20_ends (ws_ yX20_ends cX20_ends 1 (some .boolean)) 1 20 0 0 C [.ref a0] K := by
  intro D dT adK adV sz
  refine xEnter (own := RX20) (Qc := xQz D dT K) (by decide) rfl (by rfl) ?_
  intro p e s m args below meth c A ls X hnm hK hA hG hI hl
  have hx := X.1
  have hb := X.2.1
  have hts := X.2.2.2.2.1
  have hown := X.2.2.2.2.2.1
  have hl : lv_has ls 1 [(0, .ref a0)] := hl
  unfold x_X20_ends at hs
  refine lv_aload_n hx hb dX20_ends_0 rfl (lv_at hl 0 rfl) ?_
  obtain ⟨v1, ev1, hs⟩ := hs
  refine x_get (v := .int v1) X hK hI 20 2 rfl in_X20 rfl q962 rfl (xgi_spec ev1) dX20_ends_1 ?_
  refine lv_aload_n hx hb dX20_ends_4 rfl (lv_at hl 0 rfl) ?_
  obtain ⟨ad2, ead2, hs⟩ := hs
  refine x_get (v := .ref ad2) X hK hI 20 0 rfl in_X20 rfl q960 rfl (xgr_spec ead2) dX20_ends_5 ?_
  refine x_goi hA hI (vdc_X8_length (rest := [.int v1]) X hK hA hG hI ad2 _ hs q989 ⟨(Nat.le_of_ble_eq_true rfl), (Nat.le_of_ble_eq_true rfl)⟩ hl.1 (Nat.le_of_ble_eq_true rfl) dX20_ends_8 ⟨(Nat.le_of_ble_eq_true rfl), (Nat.le_of_ble_eq_true rfl)⟩) (fun r4 C3 H locs hs9 hI => ?_)
  replace hs := hs9
  refine lv_icmp_ne (tgt := 18) hx hb dX20_ends_11 (by decide) (fun c4 => ?_) (fun c4 => ?_)
  · replace hs := ifn c4 hs
    refine lv_iconst (v := 0) hx hb dX20_ends_18 (by decide) ?_
    exact x_retz X hK hI isB0 hs (Nat.le_of_ble_eq_true rfl) (Nat.le_of_ble_eq_true rfl) dX20_ends_19
  · replace hs := ifp c4 hs
    refine lv_iconst (v := 1) hx hb dX20_ends_14 (by decide) ?_
    refine lv_goto (tgt := 19) hx hb dX20_ends_15 (by decide) ?_
    exact x_retz X hK hI isB1 hs (Nat.le_of_ble_eq_true rfl) (Nat.le_of_ble_eq_true rfl) dX20_ends_19
def x_X21_init (a0 : Nat) (a1 : Int32) (C : XH) (K : XH → Prop) : Prop := x_J1_init_2_21 a0 C (fun C1 => obd (xpv C1 (xis 21) a0 6 (.int a1)) (fun C2 => K C2))
theorem iX21_init : xInf yX21_init cX21_init 2 none 1 := ⟨q1085, by decide +kernel⟩
set_option maxHeartbeats 4000000 in
theorem xet_X21_init (l : Launch) (a0 : Nat) (a1 : Int32) (C : XH) (K : XH → Prop) (hs : x_X21_init a0 a1 C K) : xMetv l yX21_init (ws_ yX21_init cX21_init 2 none) 3 72 0 0 C [.ref a0, .int a1] K := by
  intro D dT adK adV sz
  refine xEnter (own := RX21) (Qc := xQv D dT K) (by decide) rfl (by rfl) ?_
  intro p e s m args below meth c A ls X hnm hK hA hG hI hl
  have hx := X.1
  have hb := X.2.1
  have hts := X.2.2.2.2.1
  have hown := X.2.2.2.2.2.1
  have hl : lv_has ls 2 [(0, .ref a0), (1, .int a1)] := hl
  unfold x_X21_init at hs
  refine lv_aload_n hx hb dX21_init_0 rfl (lv_at hl 0 rfl) ?_
  refine lv_null hx hb dX21_init_1 ?_
  refine lv_null hx hb dX21_init_2 ?_
  refine lv_iconst (v := 0) hx hb dX21_init_3 (by decide) ?_
  refine lv_iconst (v := 0) hx hb dX21_init_4 (by decide) ?_
  refine x_gov hA hI (x_runI (As := [.null, .null, .int 0, .int 0]) (rest := []) X hK hA hG hI (xet_J1_init_2_21 l a0 _ _ hs) iJ1_init_2 rfl q1086 q458 q102 ⟨(Nat.le_of_ble_eq_true rfl), (Nat.le_of_ble_eq_true rfl)⟩ rfl hl.1 rfl (Nat.le_of_ble_eq_true rfl) dX21_init_5 ⟨(Nat.le_of_ble_eq_true rfl), (Nat.le_of_ble_eq_true rfl)⟩) (fun C1 H locs hs9 hI => ?_)
  replace hs := hs9
  refine lv_aload_n hx hb dX21_init_8 rfl (lv_at hl 0 rfl) ?_
  refine lv_iload_n hx hb dX21_init_9 rfl (lv_at hl 1 rfl) ?_
  obtain ⟨C2, eC2, hs⟩ := hs
  refine x_putF X hK hI 21 6 rfl in_X21 tyX21 tyX21_ok nmX21 rfl q1087 rfl rfl hnm rfl rfl eC2 dX21_init_10 (fun H locs hI => ?_)
  exact x_retv X hK hI hs (Nat.le_of_ble_eq_true rfl) (Nat.le_of_ble_eq_true rfl) dX21_init_13
def x_X20_hasRoom (a0 : Nat) (a1 : Int32) (a2 : Int32) (C : XH) (K : XH → Prop) (E : Nat → XH → Prop) : Prop := (if a1 = 0 then xnew C (.inr (21, [.null, .null, .null, .null, .null, .int 0, .int 0])) (fun ad1 C2 => x_X21_init ad1 a2 C2 (fun C3 => (xcl C3 ad1 = some 21 ∧ E ad1 C3))) else K C)
theorem iX20_hasRoom : xInf yX20_hasRoom cX20_hasRoom 3 none 2 := ⟨q1096, by decide +kernel⟩
set_option maxHeartbeats 4000000 in
theorem xet_X20_hasRoom (l : Launch) (hl0 : l.stackTraces = false) (a0 : Nat) (a1 : Int32) (a2 : Int32) (C : XH) (K : XH → Prop) (E : Nat → XH → Prop) (hs : x_X20_hasRoom a0 a1 a2 C K E) : xMetX l yX20_hasRoom (ws_ yX20_hasRoom cX20_hasRoom 3 none) 4 93 1 7 C [.ref a0, .int a1, .int a2] (fun D dT A => xQv D dT K A) (xEK RX21 E) := by
  intro D dT adK adV sz
  refine xEnterT (own := RX20) (Qc := xQv D dT K) (XC := xXC D dT (xEK RX21 E)) (by decide) rfl (by rfl) ?_
  intro p e s m args below meth c A ls X hnm hK hA hG hT hI hl
  have hx := X.1
  have hb := X.2.1
  have hts := X.2.2.2.2.1
  have hown := X.2.2.2.2.2.1
  have hl : lv_has ls 3 [(0, .ref a0), (1, .int a1), (2, .int a2)] := hl
  unfold x_X20_hasRoom at hs
  refine lv_iload_n hx hb dX20_hasRoom_0 rfl (lv_at hl 1 rfl) ?_
  refine lv_if_ne (tgt := 13) hx hb dX20_hasRoom_1 (by decide) (fun c4 => ?_) (fun c4 => ?_)
  · replace hs := ifn c4 hs
    exact vx_ret (x_retv X hK hI hs (Nat.le_of_ble_eq_true rfl) (Nat.le_of_ble_eq_true rfl) dX20_hasRoom_13)
  · replace hs := ifp c4 hs
    refine x_new X hK hI hA 21 (fs := [.null, .null, .null, .null, .null, .int 0, .int 0]) rfl in_X21 tyX21 tyX21_ok q1074 q1075 q128 rfl (Nat.le_of_ble_eq_true rfl) (Nat.le_of_ble_eq_true rfl) hs dX20_hasRoom_4 (fun ad1 C2 H hs9 hI => ?_)
    replace hs := hs9
    refine lv_dup hx hb dX20_hasRoom_7 rfl ?_
    refine lv_iload_n hx hb dX20_hasRoom_8 rfl (lv_at hl 2 rfl) ?_
    refine x_gov hA hI (x_runI (As := [.int a2]) (rest := [.ref ad1]) X hK hA hG hI (xet_X21_init l ad1 a2 _ _ hs) iX21_init rfl q1083 q1084 q128 ⟨(Nat.le_of_ble_eq_true rfl), (Nat.le_of_ble_eq_true rfl)⟩ rfl hl.1 rfl (Nat.le_of_ble_eq_true rfl) dX20_hasRoom_9 ⟨(Nat.le_of_ble_eq_true rfl), (Nat.le_of_ble_eq_true rfl)⟩) (fun C3 H locs hs9 hI => ?_)
    replace hs := hs9
    obtain ⟨hf3, hs⟩ := hs
    obtain ⟨f3, hf3⟩ := xcl_spec hf3
    obtain ⟨ce, hce, hvm, hcl⟩ := x_thrown hK hI hf3 rfl
    refine vx_athrow hx hb dX20_hasRoom_12 ?_
    exact x_pass X hK hT rfl hI hce hvm hcl ⟨rfl, hs⟩ (Nat.le_of_ble_eq_true rfl) (Nat.le_of_ble_eq_true rfl)
def x_X9_get (a0 : Nat) (a1 : Int32) (C : XH) (K : Int64 → XH → Prop) : Prop := obd (xgr C (xis 9) a0 0) (fun ad1 => obd (xai C 2 ad1 a1) (fun v2 => K ((v2 : Int32).toInt64) C))
theorem iX9_get : xInf yX9_get cX9_get 2 (some .long) 1 := ⟨q635, by decide +kernel⟩
set_option maxHeartbeats 4000000 in
theorem xet_X9_get (l : Launch) (a0 : Nat) (a1 : Int32) (C : XH) (K : Int64 → XH → Prop) (hs : x_X9_get a0 a1 C K) : xMetl l yX9_get (ws_ yX9_get cX9_get 2 (some .long)) 0 0 0 0 C [.ref a0, .int a1] K := by
  intro D dT adK adV sz
  refine xEnter (own := RX9) (Qc := xQl D dT K) (by decide) rfl (by rfl) ?_
  intro p e s m args below meth c A ls X hnm hK hA hG hI hl
  have hx := X.1
  have hb := X.2.1
  have hts := X.2.2.2.2.1
  have hown := X.2.2.2.2.2.1
  have hl : lv_has ls 2 [(0, .ref a0), (1, .int a1)] := hl
  unfold x_X9_get at hs
  refine lv_aload_n hx hb dX9_get_0 rfl (lv_at hl 0 rfl) ?_
  obtain ⟨ad1, ead1, hs⟩ := hs
  refine x_get (v := .ref ad1) X hK hI 9 0 rfl in_X9 rfl q502 rfl (xgr_spec ead1) dX9_get_1 ?_
  refine lv_iload_n hx hb dX9_get_4 rfl (lv_at hl 1 rfl) ?_
  obtain ⟨v2, ev2, hs⟩ := hs
  refine x_bald X hK hI ev2 dX9_get_5 ?_
  refine lv_i2l (v := ((v2 : Int32).toInt64)) hx hb dX9_get_6 rfl ?_
  exact x_retl X hK hI hs (Nat.le_of_ble_eq_true rfl) (Nat.le_of_ble_eq_true rfl) dX9_get_7
def x_X11_get (a0 : Nat) (a1 : Int32) (C : XH) (K : Int64 → XH → Prop) : Prop := obd (xgr C (xis 11) a0 0) (fun ad1 => obd (xai C 0 ad1 a1) (fun v2 => K ((v2 : Int32).toInt64) C))
theorem iX11_get : xInf yX11_get cX11_get 2 (some .long) 1 := ⟨q638, by decide +kernel⟩
set_option maxHeartbeats 4000000 in
theorem xet_X11_get (l : Launch) (a0 : Nat) (a1 : Int32) (C : XH) (K : Int64 → XH → Prop) (hs : x_X11_get a0 a1 C K) : xMetl l yX11_get (ws_ yX11_get cX11_get 2 (some .long)) 0 0 0 0 C [.ref a0, .int a1] K := by
  intro D dT adK adV sz
  refine xEnter (own := RX11) (Qc := xQl D dT K) (by decide) rfl (by rfl) ?_
  intro p e s m args below meth c A ls X hnm hK hA hG hI hl
  have hx := X.1
  have hb := X.2.1
  have hts := X.2.2.2.2.1
  have hown := X.2.2.2.2.2.1
  have hl : lv_has ls 2 [(0, .ref a0), (1, .int a1)] := hl
  unfold x_X11_get at hs
  refine lv_aload_n hx hb dX11_get_0 rfl (lv_at hl 0 rfl) ?_
  obtain ⟨ad1, ead1, hs⟩ := hs
  refine x_get (v := .ref ad1) X hK hI 11 0 rfl in_X11 rfl q523 rfl (xgr_spec ead1) dX11_get_1 ?_
  refine lv_iload_n hx hb dX11_get_4 rfl (lv_at hl 1 rfl) ?_
  obtain ⟨v2, ev2, hs⟩ := hs
  refine x_iald X hK hI ev2 dX11_get_5 ?_
  refine lv_i2l (v := ((v2 : Int32).toInt64)) hx hb dX11_get_6 rfl ?_
  exact x_retl X hK hI hs (Nat.le_of_ble_eq_true rfl) (Nat.le_of_ble_eq_true rfl) dX11_get_7
def x_X12_get (a0 : Nat) (a1 : Int32) (C : XH) (K : Int64 → XH → Prop) : Prop := obd (xgr C (xis 12) a0 0) (fun ad1 => obd (xal C ad1 a1) (fun v2 => K v2 C))
theorem iX12_get : xInf yX12_get cX12_get 2 (some .long) 1 := ⟨q641, by decide +kernel⟩
set_option maxHeartbeats 4000000 in
theorem xet_X12_get (l : Launch) (a0 : Nat) (a1 : Int32) (C : XH) (K : Int64 → XH → Prop) (hs : x_X12_get a0 a1 C K) : xMetl l yX12_get (ws_ yX12_get cX12_get 2 (some .long)) 0 0 0 0 C [.ref a0, .int a1] K := by
  intro D dT adK adV sz
  refine xEnter (own := RX12) (Qc := xQl D dT K) (by decide) rfl (by rfl) ?_
  intro p e s m args below meth c A ls X hnm hK hA hG hI hl
  have hx := X.1
  have hb := X.2.1
  have hts := X.2.2.2.2.1
  have hown := X.2.2.2.2.2.1
  have hl : lv_has ls 2 [(0, .ref a0), (1, .int a1)] := hl
  unfold x_X12_get at hs
  refine lv_aload_n hx hb dX12_get_0 rfl (lv_at hl 0 rfl) ?_
  obtain ⟨ad1, ead1, hs⟩ := hs
  refine x_get (v := .ref ad1) X hK hI 12 0 rfl in_X12 rfl q533 rfl (xgr_spec ead1) dX12_get_1 ?_
  refine lv_iload_n hx hb dX12_get_4 rfl (lv_at hl 1 rfl) ?_
  obtain ⟨v2, ev2, hs⟩ := hs
  refine x_lald X hK hI ev2 dX12_get_5 ?_
  exact x_retl X hK hI hs (Nat.le_of_ble_eq_true rfl) (Nat.le_of_ble_eq_true rfl) dX12_get_6
def x_X10_get (a0 : Nat) (a1 : Int32) (C : XH) (K : Int64 → XH → Prop) : Prop := obd (xgr C (xis 10) a0 0) (fun ad1 => obd (xai C 3 ad1 a1) (fun v2 => K ((v2 : Int32).toInt64) C))
theorem iX10_get : xInf yX10_get cX10_get 2 (some .long) 1 := ⟨q644, by decide +kernel⟩
set_option maxHeartbeats 4000000 in
theorem xet_X10_get (l : Launch) (a0 : Nat) (a1 : Int32) (C : XH) (K : Int64 → XH → Prop) (hs : x_X10_get a0 a1 C K) : xMetl l yX10_get (ws_ yX10_get cX10_get 2 (some .long)) 0 0 0 0 C [.ref a0, .int a1] K := by
  intro D dT adK adV sz
  refine xEnter (own := RX10) (Qc := xQl D dT K) (by decide) rfl (by rfl) ?_
  intro p e s m args below meth c A ls X hnm hK hA hG hI hl
  have hx := X.1
  have hb := X.2.1
  have hts := X.2.2.2.2.1
  have hown := X.2.2.2.2.2.1
  have hl : lv_has ls 2 [(0, .ref a0), (1, .int a1)] := hl
  unfold x_X10_get at hs
  refine lv_aload_n hx hb dX10_get_0 rfl (lv_at hl 0 rfl) ?_
  obtain ⟨ad1, ead1, hs⟩ := hs
  refine x_get (v := .ref ad1) X hK hI 10 0 rfl in_X10 rfl q512 rfl (xgr_spec ead1) dX10_get_1 ?_
  refine lv_iload_n hx hb dX10_get_4 rfl (lv_at hl 1 rfl) ?_
  obtain ⟨v2, ev2, hs⟩ := hs
  refine x_sald X hK hI ev2 dX10_get_5 ?_
  refine lv_i2l (v := ((v2 : Int32).toInt64)) hx hb dX10_get_6 rfl ?_
  exact x_retl X hK hI hs (Nat.le_of_ble_eq_true rfl) (Nat.le_of_ble_eq_true rfl) dX10_get_7
def vd_X8_get (b : Nat) (a1 : Int32) (C : XH) (K : Int64 → XH → Prop) : Prop := obd (xcl C b) (fun ci => if ci = 9 then x_X9_get b a1 C K else if ci = 10 then x_X10_get b a1 C K else if ci = 11 then x_X11_get b a1 C K else if ci = 12 then x_X12_get b a1 C K else False)
theorem vdc_X8_get {p : Program} {l : Launch} {e : Env} {R : Room} {s : State} {m : MethodId} {args : Array Value} {below : List Frame} {meth : Method} {c : Code} {H : Heap} {locs : List Loc} {cells slots : Nat} {own : String} {cc : ByteArray} {nL : Nat} {ret : Option FieldType} {pc : Nat} {ls : Array Slot} {rest : List Value} {D : va_G} {dT : Nat → ClassId} {adK adV : Nat → Nat} {A : Nat → Prop} {C : XH} {index : Nat} (X : xX p s m args meth c own cc nL ret) (hK : va_K D aCl (aT dT) s) (hA : ∀ q : Nat, s.heap.size ≤ q → A q) (hG : xG adK adV A s s.heap) (hI : xI D dT A s.heap C H locs) (b : Nat) (a1 : Int32) (K : Int64 → XH → Prop) (hs : vd_X8_get b a1 C K) (w1 : Cond.methodLink own index ⟨RX8, "get", "(I)J"⟩ ∈ lw_all) (hR : 0 + 1 ≤ R.frames ∧ 8 + (0 + 11) + 2 ≤ R.locals) (hsz : ls.size = nL) (hrm : (rest.map fun v => v.category).sum ≤ 8) (hdg : decode cc pc = .ok (.invokevirtual index, 3)) (hf : cells + 0 ≤ R.cells ∧ slots + 0 ≤ R.slots) : xCtx p l e R s m args below meth c H locs cells slots 0 0 D dT C pc ls ([.int a1] ++ .ref b :: rest) rest (fun D dT A => xQl D dT K A) (.ref b :: [.int a1]) := by
  obtain ⟨ci, hci, hs⟩ := hs
  obtain ⟨fs, hb⟩ := xcl_spec hci
  by_cases h9 : ci = 9
  · subst h9
    replace hs := ifp rfl hs
    exact x_runA (As := [.int a1]) X hK hA hG hI hb (q := (RX9, TX9, 1)) rfl (xet_X9_get l b a1 _ _ hs) iX9_get RX8 w1 q632 (by decide) q633 q634 q110 (by decide +kernel) ⟨Nat.le_trans (Nat.le_of_ble_eq_true rfl) hR.1, Nat.le_trans (Nat.le_of_ble_eq_true rfl) hR.2⟩ rfl hsz rfl hrm hdg hf
  · replace hs := ifn h9 hs
    by_cases h10 : ci = 10
    · subst h10
      replace hs := ifp rfl hs
      exact x_runA (As := [.int a1]) X hK hA hG hI hb (q := (RX10, TX10, 1)) rfl (xet_X10_get l b a1 _ _ hs) iX10_get RX8 w1 q632 (by decide) q642 q643 q111 (by decide +kernel) ⟨Nat.le_trans (Nat.le_of_ble_eq_true rfl) hR.1, Nat.le_trans (Nat.le_of_ble_eq_true rfl) hR.2⟩ rfl hsz rfl hrm hdg hf
    · replace hs := ifn h10 hs
      by_cases h11 : ci = 11
      · subst h11
        replace hs := ifp rfl hs
        exact x_runA (As := [.int a1]) X hK hA hG hI hb (q := (RX11, TX11, 1)) rfl (xet_X11_get l b a1 _ _ hs) iX11_get RX8 w1 q632 (by decide) q636 q637 q112 (by decide +kernel) ⟨Nat.le_trans (Nat.le_of_ble_eq_true rfl) hR.1, Nat.le_trans (Nat.le_of_ble_eq_true rfl) hR.2⟩ rfl hsz rfl hrm hdg hf
      · replace hs := ifn h11 hs
        by_cases h12 : ci = 12
        · subst h12
          replace hs := ifp rfl hs
          exact x_runA (As := [.int a1]) X hK hA hG hI hb (q := (RX12, TX12, 1)) rfl (xet_X12_get l b a1 _ _ hs) iX12_get RX8 w1 q632 (by decide) q639 q640 q113 (by decide +kernel) ⟨Nat.le_trans (Nat.le_of_ble_eq_true rfl) hR.1, Nat.le_trans (Nat.le_of_ble_eq_true rfl) hR.2⟩ rfl hsz rfl hrm hdg hf
        · replace hs := ifn h12 hs
          exact hs.elim
def x_X8_asInt (a0 : Nat) (a1 : Int32) (C : XH) (K : Int32 → XH → Prop) : Prop := vd_X8_get a0 a1 C (fun r2 C1 => K ((r2 : Int64).toInt32) C1)
theorem iX8_asInt : xInf yX8_asInt cX8_asInt 2 (some .int) 1 := ⟨q1011, by decide +kernel⟩
set_option maxHeartbeats 4000000 in
theorem xet_X8_asInt (l : Launch) (a0 : Nat) (a1 : Int32) (C : XH) (K : Int32 → XH → Prop) (hs : x_X8_asInt a0 a1 C K) : xMeti l yX8_asInt (ws_ yX8_asInt cX8_asInt 2 (some .int)) 1 21 0 0 C [.ref a0, .int a1] K := by
  intro D dT adK adV sz
  refine xEnter (own := RX8) (Qc := xQi D dT K) (by decide) rfl (by rfl) ?_
  intro p e s m args below meth c A ls X hnm hK hA hG hI hl
  have hx := X.1
  have hb := X.2.1
  have hts := X.2.2.2.2.1
  have hown := X.2.2.2.2.2.1
  have hl : lv_has ls 2 [(0, .ref a0), (1, .int a1)] := hl
  unfold x_X8_asInt at hs
  refine lv_aload_n hx hb dX8_asInt_0 rfl (lv_at hl 0 rfl) ?_
  refine lv_iload_n hx hb dX8_asInt_1 rfl (lv_at hl 1 rfl) ?_
  refine x_gol hA hI (vdc_X8_get (rest := []) X hK hA hG hI a0 a1 _ hs q1012 ⟨(Nat.le_of_ble_eq_true rfl), (Nat.le_of_ble_eq_true rfl)⟩ hl.1 (Nat.le_of_ble_eq_true rfl) dX8_asInt_2 ⟨(Nat.le_of_ble_eq_true rfl), (Nat.le_of_ble_eq_true rfl)⟩) (fun r2 C1 H locs hs9 hI => ?_)
  replace hs := hs9
  refine lv_l2i (v := ((r2 : Int64).toInt32)) hx hb dX8_asInt_5 rfl ?_
  exact x_reti X hK hI hs (Nat.le_of_ble_eq_true rfl) (Nat.le_of_ble_eq_true rfl) dX8_asInt_6
def vd_X8_asInt (b : Nat) (a1 : Int32) (C : XH) (K : Int32 → XH → Prop) : Prop := obd (xcl C b) (fun ci => if ci = 9 then x_X8_asInt b a1 C K else if ci = 10 then x_X8_asInt b a1 C K else if ci = 11 then x_X8_asInt b a1 C K else if ci = 12 then x_X8_asInt b a1 C K else False)
theorem vdc_X8_asInt {p : Program} {l : Launch} {e : Env} {R : Room} {s : State} {m : MethodId} {args : Array Value} {below : List Frame} {meth : Method} {c : Code} {H : Heap} {locs : List Loc} {cells slots : Nat} {own : String} {cc : ByteArray} {nL : Nat} {ret : Option FieldType} {pc : Nat} {ls : Array Slot} {rest : List Value} {D : va_G} {dT : Nat → ClassId} {adK adV : Nat → Nat} {A : Nat → Prop} {C : XH} {index : Nat} (X : xX p s m args meth c own cc nL ret) (hK : va_K D aCl (aT dT) s) (hA : ∀ q : Nat, s.heap.size ≤ q → A q) (hG : xG adK adV A s s.heap) (hI : xI D dT A s.heap C H locs) (b : Nat) (a1 : Int32) (K : Int32 → XH → Prop) (hs : vd_X8_asInt b a1 C K) (w1 : Cond.methodLink own index ⟨RX8, "asInt", "(I)I"⟩ ∈ lw_all) (hR : 1 + 1 ≤ R.frames ∧ 8 + (0 + 11) + 23 ≤ R.locals) (hsz : ls.size = nL) (hrm : (rest.map fun v => v.category).sum ≤ 8) (hdg : decode cc pc = .ok (.invokevirtual index, 3)) (hf : cells + 0 ≤ R.cells ∧ slots + 0 ≤ R.slots) : xCtx p l e R s m args below meth c H locs cells slots 0 0 D dT C pc ls ([.int a1] ++ .ref b :: rest) rest (fun D dT A => xQi D dT K A) (.ref b :: [.int a1]) := by
  obtain ⟨ci, hci, hs⟩ := hs
  obtain ⟨fs, hb⟩ := xcl_spec hci
  by_cases h9 : ci = 9
  · subst h9
    replace hs := ifp rfl hs
    exact x_runO (As := [.int a1]) X hK hA hG hI hb (q := (RX9, TX9, 1)) rfl (xet_X8_asInt l b a1 _ _ hs) iX8_asInt RX8 w1 q1006 q1005 q1007 q1005 q109 q1011 (by decide +kernel) ⟨Nat.le_trans (Nat.le_of_ble_eq_true rfl) hR.1, Nat.le_trans (Nat.le_of_ble_eq_true rfl) hR.2⟩ rfl hsz rfl hrm hdg hf
  · replace hs := ifn h9 hs
    by_cases h10 : ci = 10
    · subst h10
      replace hs := ifp rfl hs
      exact x_runO (As := [.int a1]) X hK hA hG hI hb (q := (RX10, TX10, 1)) rfl (xet_X8_asInt l b a1 _ _ hs) iX8_asInt RX8 w1 q1006 q1005 q1010 q1005 q109 q1011 (by decide +kernel) ⟨Nat.le_trans (Nat.le_of_ble_eq_true rfl) hR.1, Nat.le_trans (Nat.le_of_ble_eq_true rfl) hR.2⟩ rfl hsz rfl hrm hdg hf
    · replace hs := ifn h10 hs
      by_cases h11 : ci = 11
      · subst h11
        replace hs := ifp rfl hs
        exact x_runO (As := [.int a1]) X hK hA hG hI hb (q := (RX11, TX11, 1)) rfl (xet_X8_asInt l b a1 _ _ hs) iX8_asInt RX8 w1 q1006 q1005 q1008 q1005 q109 q1011 (by decide +kernel) ⟨Nat.le_trans (Nat.le_of_ble_eq_true rfl) hR.1, Nat.le_trans (Nat.le_of_ble_eq_true rfl) hR.2⟩ rfl hsz rfl hrm hdg hf
      · replace hs := ifn h11 hs
        by_cases h12 : ci = 12
        · subst h12
          replace hs := ifp rfl hs
          exact x_runO (As := [.int a1]) X hK hA hG hI hb (q := (RX12, TX12, 1)) rfl (xet_X8_asInt l b a1 _ _ hs) iX8_asInt RX8 w1 q1006 q1005 q1009 q1005 q109 q1011 (by decide +kernel) ⟨Nat.le_trans (Nat.le_of_ble_eq_true rfl) hR.1, Nat.le_trans (Nat.le_of_ble_eq_true rfl) hR.2⟩ rfl hsz rfl hrm hdg hf
        · replace hs := ifn h12 hs
          exact hs.elim
def x_X20_digit (a0 : Nat) (C : XH) (K : Int32 → XH → Prop) : Prop := (xcl C a0 = some 20 ∧ x_X20_ends a0 C (fun r2 C1 => (if r2 = 0 then obd (xgr C1 (xis 20) a0 0) (fun ad4 => obd (xgi C1 (xis 20) a0 2) (fun v5 => vd_X8_asInt ad4 v5 C1 (fun r7 C6 => (if r7 < 48 then K 0 C6 else obd (xgr C6 (xis 20) a0 0) (fun ad8 => obd (xgi C6 (xis 20) a0 2) (fun v9 => vd_X8_asInt ad8 v9 C6 (fun r11 C10 => (if 57 < r11 then K 0 C10 else K 1 C10)))))))) else K 0 C1)))
theorem iX20_digit : xInf yX20_digit cX20_digit 1 (some .boolean) 0 := ⟨q1104, by decide +kernel⟩
set_option maxHeartbeats 4000000 in
theorem xet_X20_digit (l : Launch) (a0 : Nat) (C : XH) (K : Int32 → XH → Prop) (hs : x_X20_digit a0 C K) : xMetz l yX20_digit (ws_ yX20_digit cX20_digit 1 (some .boolean)) 2 42 0 0 C [.ref a0] K := by
  intro D dT adK adV sz
  refine xEnter (own := RX20) (Qc := xQz D dT K) (by decide) rfl (by rfl) ?_
  intro p e s m args below meth c A ls X hnm hK hA hG hI hl
  have hx := X.1
  have hb := X.2.1
  have hts := X.2.2.2.2.1
  have hown := X.2.2.2.2.2.1
  have hl : lv_has ls 1 [(0, .ref a0)] := hl
  unfold x_X20_digit at hs
  refine lv_aload_n hx hb dX20_digit_0 rfl (lv_at hl 0 rfl) ?_
  obtain ⟨h2, hs⟩ := hs
  obtain ⟨fh2, h2⟩ := xcl_spec h2
  refine x_goz hA hI (x_runV (As := []) (rest := []) X hK hA hG hI h2 (q := (RX20, TX20, 4)) rfl rfl (xet_X20_ends l a0 _ _ hs) iX20_ends q985 q987 qs7 q124 ⟨(Nat.le_of_ble_eq_true rfl), (Nat.le_of_ble_eq_true rfl)⟩ rfl hl.1 rfl (Nat.le_of_ble_eq_true rfl) dX20_digit_1 ⟨(Nat.le_of_ble_eq_true rfl), (Nat.le_of_ble_eq_true rfl)⟩) (fun r2 C1 H locs br2 hs9 hI => ?_)
  replace hs := hs9
  refine lv_if_ne (tgt := 43) hx hb dX20_digit_4 (by decide) (fun c13 => ?_) (fun c13 => ?_)
  · replace hs := ifn c13 hs
    refine lv_iconst (v := 0) hx hb dX20_digit_43 (by decide) ?_
    exact x_retz X hK hI isB0 hs (Nat.le_of_ble_eq_true rfl) (Nat.le_of_ble_eq_true rfl) dX20_digit_44
  · replace hs := ifp c13 hs
    refine lv_aload_n hx hb dX20_digit_7 rfl (lv_at hl 0 rfl) ?_
    obtain ⟨ad4, ead4, hs⟩ := hs
    refine x_get (v := .ref ad4) X hK hI 20 0 rfl in_X20 rfl q960 rfl (xgr_spec ead4) dX20_digit_8 ?_
    refine lv_aload_n hx hb dX20_digit_11 rfl (lv_at hl 0 rfl) ?_
    obtain ⟨v5, ev5, hs⟩ := hs
    refine x_get (v := .int v5) X hK hI 20 2 rfl in_X20 rfl q962 rfl (xgi_spec ev5) dX20_digit_12 ?_
    refine x_goi hA hI (vdc_X8_asInt (rest := []) X hK hA hG hI ad4 v5 _ hs q1004 ⟨(Nat.le_of_ble_eq_true rfl), (Nat.le_of_ble_eq_true rfl)⟩ hl.1 (Nat.le_of_ble_eq_true rfl) dX20_digit_15 ⟨(Nat.le_of_ble_eq_true rfl), (Nat.le_of_ble_eq_true rfl)⟩) (fun r7 C6 H locs hs9 hI => ?_)
    replace hs := hs9
    refine lv_bipush (v := 48) hx hb dX20_digit_18 (by decide) ?_
    refine lv_icmp_lt (tgt := 43) hx hb dX20_digit_20 (by decide) (fun c12 => ?_) (fun c12 => ?_)
    · replace hs := ifp c12 hs
      refine lv_iconst (v := 0) hx hb dX20_digit_43 (by decide) ?_
      exact x_retz X hK hI isB0 hs (Nat.le_of_ble_eq_true rfl) (Nat.le_of_ble_eq_true rfl) dX20_digit_44
    · replace hs := ifn c12 hs
      refine lv_aload_n hx hb dX20_digit_23 rfl (lv_at hl 0 rfl) ?_
      obtain ⟨ad8, ead8, hs⟩ := hs
      refine x_get (v := .ref ad8) X hK hI 20 0 rfl in_X20 rfl q960 rfl (xgr_spec ead8) dX20_digit_24 ?_
      refine lv_aload_n hx hb dX20_digit_27 rfl (lv_at hl 0 rfl) ?_
      obtain ⟨v9, ev9, hs⟩ := hs
      refine x_get (v := .int v9) X hK hI 20 2 rfl in_X20 rfl q962 rfl (xgi_spec ev9) dX20_digit_28 ?_
      refine x_goi hA hI (vdc_X8_asInt (rest := []) X hK hA hG hI ad8 v9 _ hs q1004 ⟨(Nat.le_of_ble_eq_true rfl), (Nat.le_of_ble_eq_true rfl)⟩ hl.1 (Nat.le_of_ble_eq_true rfl) dX20_digit_31 ⟨(Nat.le_of_ble_eq_true rfl), (Nat.le_of_ble_eq_true rfl)⟩) (fun r11 C10 H locs hs9 hI => ?_)
      replace hs := hs9
      refine lv_bipush (v := 57) hx hb dX20_digit_34 (by decide) ?_
      refine lv_icmp_gt (tgt := 43) hx hb dX20_digit_36 (by decide) (fun c11 => ?_) (fun c11 => ?_)
      · replace hs := ifp c11 hs
        refine lv_iconst (v := 0) hx hb dX20_digit_43 (by decide) ?_
        exact x_retz X hK hI isB0 hs (Nat.le_of_ble_eq_true rfl) (Nat.le_of_ble_eq_true rfl) dX20_digit_44
      · replace hs := ifn c11 hs
        refine lv_iconst (v := 1) hx hb dX20_digit_39 (by decide) ?_
        refine lv_goto (tgt := 44) hx hb dX20_digit_40 (by decide) ?_
        exact x_retz X hK hI isB1 hs (Nat.le_of_ble_eq_true rfl) (Nat.le_of_ble_eq_true rfl) dX20_digit_44
def x_X20_sees (a0 : Nat) (a1 : Int32) (C : XH) (K : Int32 → XH → Prop) : Prop := (xcl C a0 = some 20 ∧ x_X20_ends a0 C (fun r2 C1 => (if r2 = 0 then obd (xgr C1 (xis 20) a0 0) (fun ad4 => obd (xgi C1 (xis 20) a0 2) (fun v5 => vd_X8_asInt ad4 v5 C1 (fun r7 C6 => (if r7 = a1 then K 1 C6 else K 0 C6)))) else K 0 C1)))
theorem iX20_sees : xInf yX20_sees cX20_sees 2 (some .boolean) 1 := ⟨q984, by decide +kernel⟩
set_option maxHeartbeats 4000000 in
theorem xet_X20_sees (l : Launch) (a0 : Nat) (a1 : Int32) (C : XH) (K : Int32 → XH → Prop) (hs : x_X20_sees a0 a1 C K) : xMetz l yX20_sees (ws_ yX20_sees cX20_sees 2 (some .boolean)) 2 42 0 0 C [.ref a0, .int a1] K := by
  intro D dT adK adV sz
  refine xEnter (own := RX20) (Qc := xQz D dT K) (by decide) rfl (by rfl) ?_
  intro p e s m args below meth c A ls X hnm hK hA hG hI hl
  have hx := X.1
  have hb := X.2.1
  have hts := X.2.2.2.2.1
  have hown := X.2.2.2.2.2.1
  have hl : lv_has ls 2 [(0, .ref a0), (1, .int a1)] := hl
  unfold x_X20_sees at hs
  refine lv_aload_n hx hb dX20_sees_0 rfl (lv_at hl 0 rfl) ?_
  obtain ⟨h2, hs⟩ := hs
  obtain ⟨fh2, h2⟩ := xcl_spec h2
  refine x_goz hA hI (x_runV (As := []) (rest := []) X hK hA hG hI h2 (q := (RX20, TX20, 4)) rfl rfl (xet_X20_ends l a0 _ _ hs) iX20_ends q985 q987 qs7 q124 ⟨(Nat.le_of_ble_eq_true rfl), (Nat.le_of_ble_eq_true rfl)⟩ rfl hl.1 rfl (Nat.le_of_ble_eq_true rfl) dX20_sees_1 ⟨(Nat.le_of_ble_eq_true rfl), (Nat.le_of_ble_eq_true rfl)⟩) (fun r2 C1 H locs br2 hs9 hI => ?_)
  replace hs := hs9
  refine lv_if_ne (tgt := 26) hx hb dX20_sees_4 (by decide) (fun c8 => ?_) (fun c8 => ?_)
  · replace hs := ifn c8 hs
    refine lv_iconst (v := 0) hx hb dX20_sees_26 (by decide) ?_
    exact x_retz X hK hI isB0 hs (Nat.le_of_ble_eq_true rfl) (Nat.le_of_ble_eq_true rfl) dX20_sees_27
  · replace hs := ifp c8 hs
    refine lv_aload_n hx hb dX20_sees_7 rfl (lv_at hl 0 rfl) ?_
    obtain ⟨ad4, ead4, hs⟩ := hs
    refine x_get (v := .ref ad4) X hK hI 20 0 rfl in_X20 rfl q960 rfl (xgr_spec ead4) dX20_sees_8 ?_
    refine lv_aload_n hx hb dX20_sees_11 rfl (lv_at hl 0 rfl) ?_
    obtain ⟨v5, ev5, hs⟩ := hs
    refine x_get (v := .int v5) X hK hI 20 2 rfl in_X20 rfl q962 rfl (xgi_spec ev5) dX20_sees_12 ?_
    refine x_goi hA hI (vdc_X8_asInt (rest := []) X hK hA hG hI ad4 v5 _ hs q1004 ⟨(Nat.le_of_ble_eq_true rfl), (Nat.le_of_ble_eq_true rfl)⟩ hl.1 (Nat.le_of_ble_eq_true rfl) dX20_sees_15 ⟨(Nat.le_of_ble_eq_true rfl), (Nat.le_of_ble_eq_true rfl)⟩) (fun r7 C6 H locs hs9 hI => ?_)
    replace hs := hs9
    refine lv_iload_n hx hb dX20_sees_18 rfl (lv_at hl 1 rfl) ?_
    refine lv_icmp_ne (tgt := 26) hx hb dX20_sees_19 (by decide) (fun c7 => ?_) (fun c7 => ?_)
    · replace hs := ifn c7 hs
      refine lv_iconst (v := 0) hx hb dX20_sees_26 (by decide) ?_
      exact x_retz X hK hI isB0 hs (Nat.le_of_ble_eq_true rfl) (Nat.le_of_ble_eq_true rfl) dX20_sees_27
    · replace hs := ifp c7 hs
      refine lv_iconst (v := 1) hx hb dX20_sees_22 (by decide) ?_
      refine lv_goto (tgt := 27) hx hb dX20_sees_23 (by decide) ?_
      exact x_retz X hK hI isB1 hs (Nat.le_of_ble_eq_true rfl) (Nat.le_of_ble_eq_true rfl) dX20_sees_27
def x_X20_must (a0 : Nat) (a1 : Int32) (C : XH) (K : XH → Prop) (E : Nat → XH → Prop) : Prop := (xcl C a0 = some 20 ∧ x_X20_sees a0 a1 C (fun r2 C1 => (if r2 = 0 then xnew C1 (.inr (21, [.null, .null, .null, .null, .null, .int 0, .int 0])) (fun ad6 C7 => obd (xgi C7 (xis 20) a0 2) (fun v8 => x_X21_init ad6 v8 C7 (fun C9 => (xcl C9 ad6 = some 21 ∧ E ad6 C9)))) else obd (xgi C1 (xis 20) a0 2) (fun v4 => obd (xpv C1 (xis 20) a0 2 (.int (v4 + 1))) (fun C5 => K C5)))))
theorem iX20_must : xInf yX20_must cX20_must 2 none 1 := ⟨q1073, by decide +kernel⟩
set_option maxHeartbeats 4000000 in
theorem xet_X20_must (l : Launch) (hl0 : l.stackTraces = false) (a0 : Nat) (a1 : Int32) (C : XH) (K : XH → Prop) (E : Nat → XH → Prop) (hs : x_X20_must a0 a1 C K E) : xMetX l yX20_must (ws_ yX20_must cX20_must 2 none) 4 93 1 7 C [.ref a0, .int a1] (fun D dT A => xQv D dT K A) (xEK RX21 E) := by
  intro D dT adK adV sz
  refine xEnterT (own := RX20) (Qc := xQv D dT K) (XC := xXC D dT (xEK RX21 E)) (by decide) rfl (by rfl) ?_
  intro p e s m args below meth c A ls X hnm hK hA hG hT hI hl
  have hx := X.1
  have hb := X.2.1
  have hts := X.2.2.2.2.1
  have hown := X.2.2.2.2.2.1
  have hl : lv_has ls 2 [(0, .ref a0), (1, .int a1)] := hl
  unfold x_X20_must at hs
  refine lv_aload_n hx hb dX20_must_0 rfl (lv_at hl 0 rfl) ?_
  refine lv_iload_n hx hb dX20_must_1 rfl (lv_at hl 1 rfl) ?_
  obtain ⟨h2, hs⟩ := hs
  obtain ⟨fh2, h2⟩ := xcl_spec h2
  refine x_goz hA hI (x_runV (As := [.int a1]) (rest := []) X hK hA hG hI h2 (q := (RX20, TX20, 4)) rfl rfl (xet_X20_sees l a0 a1 _ _ hs) iX20_sees q981 q983 qs6 q124 ⟨(Nat.le_of_ble_eq_true rfl), (Nat.le_of_ble_eq_true rfl)⟩ rfl hl.1 rfl (Nat.le_of_ble_eq_true rfl) dX20_must_2 ⟨(Nat.le_of_ble_eq_true rfl), (Nat.le_of_ble_eq_true rfl)⟩) (fun r2 C1 H locs br2 hs9 hI => ?_)
  replace hs := hs9
  refine lv_if_ne (tgt := 20) hx hb dX20_must_5 (by decide) (fun c10 => ?_) (fun c10 => ?_)
  · replace hs := ifn c10 hs
    refine lv_aload_n hx hb dX20_must_20 rfl (lv_at hl 0 rfl) ?_
    refine lv_dup hx hb dX20_must_21 rfl ?_
    obtain ⟨v4, ev4, hs⟩ := hs
    refine x_get (v := .int v4) X hK hI 20 2 rfl in_X20 rfl q962 rfl (xgi_spec ev4) dX20_must_22 ?_
    refine lv_iconst (v := 1) hx hb dX20_must_25 (by decide) ?_
    refine lv_iadd hx hb dX20_must_26 ?_
    obtain ⟨C5, eC5, hs⟩ := hs
    refine x_put X hK hI 20 2 rfl in_X20 tyX20 tyX20_ok nmX20 rfl q962 rfl rfl rfl rfl eC5 dX20_must_27 (fun H locs hI => ?_)
    exact vx_ret (x_retv X hK hI hs (Nat.le_of_ble_eq_true rfl) (Nat.le_of_ble_eq_true rfl) dX20_must_30)
  · replace hs := ifp c10 hs
    refine x_new X hK hI hA 21 (fs := [.null, .null, .null, .null, .null, .int 0, .int 0]) rfl in_X21 tyX21 tyX21_ok q1074 q1075 q128 rfl (Nat.le_of_ble_eq_true rfl) (Nat.le_of_ble_eq_true rfl) hs dX20_must_8 (fun ad6 C7 H hs9 hI => ?_)
    replace hs := hs9
    refine lv_dup hx hb dX20_must_11 rfl ?_
    refine lv_aload_n hx hb dX20_must_12 rfl (lv_at hl 0 rfl) ?_
    obtain ⟨v8, ev8, hs⟩ := hs
    refine x_get (v := .int v8) X hK hI 20 2 rfl in_X20 rfl q962 rfl (xgi_spec ev8) dX20_must_13 ?_
    refine x_gov hA hI (x_runI (As := [.int v8]) (rest := [.ref ad6]) X hK hA hG hI (xet_X21_init l ad6 v8 _ _ hs) iX21_init rfl q1083 q1084 q128 ⟨(Nat.le_of_ble_eq_true rfl), (Nat.le_of_ble_eq_true rfl)⟩ rfl hl.1 rfl (Nat.le_of_ble_eq_true rfl) dX20_must_16 ⟨(Nat.le_of_ble_eq_true rfl), (Nat.le_of_ble_eq_true rfl)⟩) (fun C9 H locs hs9 hI => ?_)
    replace hs := hs9
    obtain ⟨hf9, hs⟩ := hs
    obtain ⟨f9, hf9⟩ := xcl_spec hf9
    obtain ⟨ce, hce, hvm, hcl⟩ := x_thrown hK hI hf9 rfl
    refine vx_athrow hx hb dX20_must_19 ?_
    exact x_pass X hK hT rfl hI hce hvm hcl ⟨rfl, hs⟩ (Nat.le_of_ble_eq_true rfl) (Nat.le_of_ble_eq_true rfl)
def x_X20_number_l38 (a0 : Nat) (k84_9 : Int32 → XH → Prop) : Nat → Int32 → Int32 → XH → Prop
  | 0, _, _, _ => False
  | n38_26 + 1, x24, x25, C26 => (if 3 ≤ x25 then k84_9 x24 C26 else (xcl C26 a0 = some 20 ∧ x_X20_digit a0 C26 (fun r29 C28 => (if r29 = 0 then k84_9 x24 C28 else obd (xgr C28 (xis 20) a0 0) (fun ad31 => obd (xgi C28 (xis 20) a0 2) (fun v32 => obd (xpv C28 (xis 20) a0 2 (.int (v32 + 1))) (fun C33 => vd_X8_asInt ad31 v32 C33 (fun r35 C34 => x_X20_number_l38 a0 k84_9 n38_26 (((10 * x24) + r35) - 48) (x25 + 1) C34))))))))
theorem x_X20_number_l38_s (a0 : Nat) (k84_9 : Int32 → XH → Prop) (n38_26 : Nat) (x24 : Int32) (x25 : Int32) (C26 : XH) : x_X20_number_l38 a0 k84_9 (n38_26 + 1) x24 x25 C26 = ((if 3 ≤ x25 then k84_9 x24 C26 else (xcl C26 a0 = some 20 ∧ x_X20_digit a0 C26 (fun r29 C28 => (if r29 = 0 then k84_9 x24 C28 else obd (xgr C28 (xis 20) a0 0) (fun ad31 => obd (xgi C28 (xis 20) a0 2) (fun v32 => obd (xpv C28 (xis 20) a0 2 (.int (v32 + 1))) (fun C33 => vd_X8_asInt ad31 v32 C33 (fun r35 C34 => x_X20_number_l38 a0 k84_9 n38_26 (((10 * x24) + r35) - 48) (x25 + 1) C34))))))))) := rfl
def x_X20_number (a0 : Nat) (a1 : Int32) (a2 : Int32) (C : XH) (K : Int32 → XH → Prop) (E : Nat → XH → Prop) : Prop := (xcl C a0 = some 20 ∧ x_X20_must a0 32 C (fun C1 => obd (xgi C1 (xis 20) a0 2) (fun v3 => obd (xpv C1 (xis 20) a0 3 (.int v3)) (fun C4 => (xcl C4 a0 = some 20 ∧ x_X20_digit a0 C4 (fun r6 C5 => (if r6 = 0 then xnew C5 (.inr (21, [.null, .null, .null, .null, .null, .int 0, .int 0])) (fun ad38 C39 => obd (xgi C39 (xis 20) a0 2) (fun v40 => x_X21_init ad38 v40 C39 (fun C41 => (xcl C41 ad38 = some 21 ∧ E ad38 C41)))) else jn (fun (x8 : Int32) (C9 : XH) => jn (obd (xgi C9 (xis 20) a0 3) (fun v11 => (xcl C9 a0 = some 20 ∧ x_X20_hasRoom a0 0 v11 C9 (fun C12 => K x8 C12) (fun ad14 C15 => E ad14 C15)))) (fun k99_10 => jn (fun (v16 : Int32) => obd (xgi C9 (xis 20) a0 3) (fun v17 => (xcl C9 a0 = some 20 ∧ x_X20_hasRoom a0 v16 v17 C9 (fun C18 => K x8 C18) (fun ad20 C21 => E ad20 C21)))) (fun k100_16 => (if x8 < a1 then k99_10 else (if a2 < x8 then k99_10 else k100_16 1))))) (fun k84_9 => x_X20_number_l38 a0 k84_9 NF 0 0 C5))))))) (fun ad44 C45 => E ad44 C45))
theorem iX20_number : xInf yX20_number cX20_number 5 (some .int) 2 := ⟨q1100, by decide +kernel⟩
set_option maxHeartbeats 4000000 in
theorem xet_X20_number (l : Launch) (hl0 : l.stackTraces = false) (a0 : Nat) (a1 : Int32) (a2 : Int32) (C : XH) (K : Int32 → XH → Prop) (E : Nat → XH → Prop) (hs : x_X20_number a0 a1 a2 C K E) : xMetX l yX20_number (ws_ yX20_number cX20_number 5 (some .int)) 5 115 2 14 C [.ref a0, .int a1, .int a2] (fun D dT A => xQi D dT K A) (xEK RX21 E) := by
  intro D dT adK adV sz
  refine xEnterT (own := RX20) (Qc := xQi D dT K) (XC := xXC D dT (xEK RX21 E)) (by decide) rfl (by rfl) ?_
  intro p e s m args below meth c A ls X hnm hK hA hG hT hI hl
  have hx := X.1
  have hb := X.2.1
  have hts := X.2.2.2.2.1
  have hown := X.2.2.2.2.2.1
  have hl : lv_has ls 5 [(0, .ref a0), (1, .int a1), (2, .int a2)] := hl
  unfold x_X20_number at hs
  refine lv_aload_n hx hb dX20_number_0 rfl (lv_at hl 0 rfl) ?_
  refine lv_bipush (v := 32) hx hb dX20_number_1 (by decide) ?_
  obtain ⟨h1, hs⟩ := hs
  obtain ⟨fh1, h1⟩ := xcl_spec h1
  refine xT_gov hA hI (x_runVT (As := [.int 32]) (rest := []) X hK hA hG hI h1 (q := (RX20, TX20, 4)) rfl rfl (xet_X20_must l hl0 a0 32 _ _ _ hs) iX20_must q1070 q1072 qs10 q124 ⟨(Nat.le_of_ble_eq_true rfl), (Nat.le_of_ble_eq_true rfl)⟩ rfl hl.1 rfl (Nat.le_of_ble_eq_true rfl) dX20_number_3 ⟨(Nat.le_of_ble_eq_true rfl), (Nat.le_of_ble_eq_true rfl)⟩) (fun En ce ad44 C45 H locs hs9 hI hce hvm hcl => ?_) (fun C1 H locs hs9 hI => ?_)
  · obtain ⟨rfl, hs0⟩ := hs9
    replace hs := hs0
    exact x_pass X hK hT rfl hI hce hvm hcl ⟨rfl, hs⟩ (Nat.le_of_ble_eq_true rfl) (Nat.le_of_ble_eq_true rfl)
  · replace hs := hs9
    refine lv_aload_n hx hb dX20_number_6 rfl (lv_at hl 0 rfl) ?_
    refine lv_aload_n hx hb dX20_number_7 rfl (lv_at hl 0 rfl) ?_
    obtain ⟨v3, ev3, hs⟩ := hs
    refine x_get (v := .int v3) X hK hI 20 2 rfl in_X20 rfl q962 rfl (xgi_spec ev3) dX20_number_8 ?_
    obtain ⟨C4, eC4, hs⟩ := hs
    refine x_put X hK hI 20 3 rfl in_X20 tyX20 tyX20_ok nmX20 rfl q963 rfl rfl rfl rfl eC4 dX20_number_11 (fun H locs hI => ?_)
    refine lv_aload_n hx hb dX20_number_14 rfl (lv_at hl 0 rfl) ?_
    obtain ⟨h6, hs⟩ := hs
    obtain ⟨fh6, h6⟩ := xcl_spec h6
    refine x_goz hA hI (x_runV (As := []) (rest := []) X hK hA hG hI h6 (q := (RX20, TX20, 4)) rfl rfl (xet_X20_digit l a0 _ _ hs) iX20_digit q1101 q1103 qs13 q124 ⟨(Nat.le_of_ble_eq_true rfl), (Nat.le_of_ble_eq_true rfl)⟩ rfl hl.1 rfl (Nat.le_of_ble_eq_true rfl) dX20_number_15 ⟨(Nat.le_of_ble_eq_true rfl), (Nat.le_of_ble_eq_true rfl)⟩) (fun r6 C5 H locs br6 hs9 hI => ?_)
    replace hs := hs9
    refine lv_if_ne (tgt := 33) hx hb dX20_number_18 (by decide) (fun c42 => ?_) (fun c42 => ?_)
    · replace hs := ifn c42 hs
      refine lv_iconst (v := 0) hx hb dX20_number_33 (by decide) ?_
      refine lv_istore_n (lv' := [(3, .int 0), (0, .ref a0), (1, .int a1), (2, .int a2)]) hx hb dX20_number_34 rfl hl (by decide) rfl (fun ls hl => ?_)
      refine lv_iconst (v := 0) hx hb dX20_number_35 (by decide) ?_
      refine lv_istore (lv' := [(4, .int 0), (3, .int 0), (0, .ref a0), (1, .int a1), (2, .int a2)]) hx hb dX20_number_36 hl (by decide) rfl (fun ls hl => ?_)
      obtain ⟨k84_9, hk84_9, hs⟩ := jn_ex hs
      have Ek84_9 : ∀ (x8 : Int32) (C9 : XH) (H : Heap) (locs : List Loc) (ls : Array Slot), k84_9 x8 C9 → xI D dT A s.heap C9 H locs → lv_has ls 5 [(0, .ref a0), (1, .int a1), (2, .int a2), (3, .int x8)] → W p l e (xRm 5 115 2 14) s m args below meth c H locs 1 7 (vx_MQ below (xQi D dT K A) (xXC D dT (xEK RX21 E) A) args s 2 14 A) (F0 m 84 ls []) := by
        intro x8 C9 H locs ls hs hI hl
        rw [hk84_9] at hs
        refine lv_aload_n hx hb dX20_number_84 rfl (lv_at hl 0 rfl) ?_
        refine lv_iload_n hx hb dX20_number_85 rfl (lv_at hl 3 rfl) ?_
        refine lv_iload_n hx hb dX20_number_86 rfl (lv_at hl 1 rfl) ?_
        obtain ⟨k99_10, hk99_10, hs⟩ := jn_ex hs
        have Ek99_10 : ∀ (H : Heap) (locs : List Loc) (ls : Array Slot), k99_10 → xI D dT A s.heap C9 H locs → lv_has ls 5 [(0, .ref a0), (3, .int x8)] → W p l e (xRm 5 115 2 14) s m args below meth c H locs 1 7 (vx_MQ below (xQi D dT K A) (xXC D dT (xEK RX21 E) A) args s 2 14 A) (F0 m 99 ls [.ref a0]) := by
          intro H locs ls hs hI hl
          rw [hk99_10] at hs
          refine lv_iconst (v := 0) hx hb dX20_number_99 (by decide) ?_
          refine lv_aload_n hx hb dX20_number_100 rfl (lv_at hl 0 rfl) ?_
          obtain ⟨v11, ev11, hs⟩ := hs
          refine x_get (v := .int v11) X hK hI 20 3 rfl in_X20 rfl q963 rfl (xgi_spec ev11) dX20_number_101 ?_
          obtain ⟨h12, hs⟩ := hs
          obtain ⟨fh12, h12⟩ := xcl_spec h12
          refine xT_gov hA hI (x_runVT (As := [.int 0, .int v11]) (rest := []) X hK hA hG hI h12 (q := (RX20, TX20, 4)) rfl rfl (xet_X20_hasRoom l hl0 a0 0 v11 _ _ _ hs) iX20_hasRoom q1093 q1095 qs11 q124 ⟨(Nat.le_of_ble_eq_true rfl), (Nat.le_of_ble_eq_true rfl)⟩ rfl hl.1 rfl (Nat.le_of_ble_eq_true rfl) dX20_number_104 ⟨(Nat.le_of_ble_eq_true rfl), (Nat.le_of_ble_eq_true rfl)⟩) (fun En ce ad14 C15 H locs hs9 hI hce hvm hcl => ?_) (fun C12 H locs hs9 hI => ?_)
          · obtain ⟨rfl, hs0⟩ := hs9
            replace hs := hs0
            exact x_pass X hK hT rfl hI hce hvm hcl ⟨rfl, hs⟩ (Nat.le_of_ble_eq_true rfl) (Nat.le_of_ble_eq_true rfl)
          · replace hs := hs9
            refine lv_iload_n hx hb dX20_number_107 rfl (lv_at hl 1 rfl) ?_
            exact vx_ret (x_reti X hK hI hs (Nat.le_of_ble_eq_true rfl) (Nat.le_of_ble_eq_true rfl) dX20_number_108)
        obtain ⟨k100_16, hk100_16, hs⟩ := jn_ex hs
        have Ek100_16 : ∀ (v16 : Int32) (H : Heap) (locs : List Loc) (ls : Array Slot), k100_16 v16 → xI D dT A s.heap C9 H locs → lv_has ls 5 [(0, .ref a0), (3, .int x8)] → W p l e (xRm 5 115 2 14) s m args below meth c H locs 1 7 (vx_MQ below (xQi D dT K A) (xXC D dT (xEK RX21 E) A) args s 2 14 A) (F0 m 100 ls [.int v16, .ref a0]) := by
          intro v16 H locs ls hs hI hl
          rw [hk100_16] at hs
          refine lv_aload_n hx hb dX20_number_100 rfl (lv_at hl 0 rfl) ?_
          obtain ⟨v17, ev17, hs⟩ := hs
          refine x_get (v := .int v17) X hK hI 20 3 rfl in_X20 rfl q963 rfl (xgi_spec ev17) dX20_number_101 ?_
          obtain ⟨h18, hs⟩ := hs
          obtain ⟨fh18, h18⟩ := xcl_spec h18
          refine xT_gov hA hI (x_runVT (As := [.int v16, .int v17]) (rest := []) X hK hA hG hI h18 (q := (RX20, TX20, 4)) rfl rfl (xet_X20_hasRoom l hl0 a0 v16 v17 _ _ _ hs) iX20_hasRoom q1093 q1095 qs11 q124 ⟨(Nat.le_of_ble_eq_true rfl), (Nat.le_of_ble_eq_true rfl)⟩ rfl hl.1 rfl (Nat.le_of_ble_eq_true rfl) dX20_number_104 ⟨(Nat.le_of_ble_eq_true rfl), (Nat.le_of_ble_eq_true rfl)⟩) (fun En ce ad20 C21 H locs hs9 hI hce hvm hcl => ?_) (fun C18 H locs hs9 hI => ?_)
          · obtain ⟨rfl, hs0⟩ := hs9
            replace hs := hs0
            exact x_pass X hK hT rfl hI hce hvm hcl ⟨rfl, hs⟩ (Nat.le_of_ble_eq_true rfl) (Nat.le_of_ble_eq_true rfl)
          · replace hs := hs9
            refine lv_iload_n hx hb dX20_number_107 rfl (lv_at hl 1 rfl) ?_
            exact vx_ret (x_reti X hK hI hs (Nat.le_of_ble_eq_true rfl) (Nat.le_of_ble_eq_true rfl) dX20_number_108)
        refine lv_icmp_lt (tgt := 99) hx hb dX20_number_87 (by decide) (fun c22 => ?_) (fun c22 => ?_)
        · replace hs := ifp c22 hs
          exact Ek99_10 _ _ _ hs hI (lv_sub hl [0, 3] rfl)
        · replace hs := ifn c22 hs
          refine lv_iload_n hx hb dX20_number_90 rfl (lv_at hl 3 rfl) ?_
          refine lv_iload_n hx hb dX20_number_91 rfl (lv_at hl 2 rfl) ?_
          refine lv_icmp_gt (tgt := 99) hx hb dX20_number_92 (by decide) (fun c21 => ?_) (fun c21 => ?_)
          · replace hs := ifp c21 hs
            exact Ek99_10 _ _ _ hs hI (lv_sub hl [0, 3] rfl)
          · replace hs := ifn c21 hs
            refine lv_iconst (v := 1) hx hb dX20_number_95 (by decide) ?_
            refine lv_goto (tgt := 100) hx hb dX20_number_96 (by decide) ?_
            exact Ek100_16 _ _ _ _ hs hI (lv_sub hl [0, 3] rfl)
      have Lx_X20_number_l38 : ∀ (n38_26 : Nat) (x24 : Int32) (x25 : Int32) (C26 : XH) (H : Heap) (locs : List Loc) (ls : Array Slot), x_X20_number_l38 a0 k84_9 n38_26 x24 x25 C26 → xI D dT A s.heap C26 H locs → lv_has ls 5 [(0, .ref a0), (1, .int a1), (2, .int a2), (3, .int x24), (4, .int x25)] → W p l e (xRm 5 115 2 14) s m args below meth c H locs 1 7 (vx_MQ below (xQi D dT K A) (xXC D dT (xEK RX21 E) A) args s 2 14 A) (F0 m 38 ls []) := by
        intro n38_26
        induction n38_26 with
        | zero =>
          intro x24 x25 C26 H locs ls hs
          exact False.elim hs
        | succ n38_26 ihx_X20_number_l38 =>
          intro x24 x25 C26 H locs ls hs hI hl
          rw [x_X20_number_l38_s] at hs
          refine lv_iload hx hb dX20_number_38 (lv_at hl 4 rfl) ?_
          refine lv_iconst (v := 3) hx hb dX20_number_40 (by decide) ?_
          refine lv_icmp_ge (tgt := 84) hx hb dX20_number_41 (by decide) (fun c36 => ?_) (fun c36 => ?_)
          · replace hs := ifp c36 hs
            exact Ek84_9 _ _ _ _ _ hs hI (lv_sub hl [0, 1, 2, 3] rfl)
          · replace hs := ifn c36 hs
            refine lv_aload_n hx hb dX20_number_44 rfl (lv_at hl 0 rfl) ?_
            obtain ⟨h29, hs⟩ := hs
            obtain ⟨fh29, h29⟩ := xcl_spec h29
            refine x_goz hA hI (x_runV (As := []) (rest := []) X hK hA hG hI h29 (q := (RX20, TX20, 4)) rfl rfl (xet_X20_digit l a0 _ _ hs) iX20_digit q1101 q1103 qs13 q124 ⟨(Nat.le_of_ble_eq_true rfl), (Nat.le_of_ble_eq_true rfl)⟩ rfl hl.1 rfl (Nat.le_of_ble_eq_true rfl) dX20_number_45 ⟨(Nat.le_of_ble_eq_true rfl), (Nat.le_of_ble_eq_true rfl)⟩) (fun r29 C28 H locs br29 hs9 hI => ?_)
            replace hs := hs9
            refine lv_if_eq (tgt := 84) hx hb dX20_number_48 (by decide) (fun c35 => ?_) (fun c35 => ?_)
            · replace hs := ifp c35 hs
              exact Ek84_9 _ _ _ _ _ hs hI (lv_sub hl [0, 1, 2, 3] rfl)
            · replace hs := ifn c35 hs
              refine lv_bipush (v := 10) hx hb dX20_number_51 (by decide) ?_
              refine lv_iload_n hx hb dX20_number_53 rfl (lv_at hl 3 rfl) ?_
              refine lv_imul hx hb dX20_number_54 ?_
              refine lv_aload_n hx hb dX20_number_55 rfl (lv_at hl 0 rfl) ?_
              obtain ⟨ad31, ead31, hs⟩ := hs
              refine x_get (v := .ref ad31) X hK hI 20 0 rfl in_X20 rfl q960 rfl (xgr_spec ead31) dX20_number_56 ?_
              refine lv_aload_n hx hb dX20_number_59 rfl (lv_at hl 0 rfl) ?_
              refine lv_dup hx hb dX20_number_60 rfl ?_
              obtain ⟨v32, ev32, hs⟩ := hs
              refine x_get (v := .int v32) X hK hI 20 2 rfl in_X20 rfl q962 rfl (xgi_spec ev32) dX20_number_61 ?_
              refine lv_dup_x1 hx hb dX20_number_64 rfl rfl ?_
              refine lv_iconst (v := 1) hx hb dX20_number_65 (by decide) ?_
              refine lv_iadd hx hb dX20_number_66 ?_
              obtain ⟨C33, eC33, hs⟩ := hs
              refine x_put X hK hI 20 2 rfl in_X20 tyX20 tyX20_ok nmX20 rfl q962 rfl rfl rfl rfl eC33 dX20_number_67 (fun H locs hI => ?_)
              refine x_goi hA hI (vdc_X8_asInt (rest := [.int (10 * x24)]) X hK hA hG hI ad31 v32 _ hs q1004 ⟨(Nat.le_of_ble_eq_true rfl), (Nat.le_of_ble_eq_true rfl)⟩ hl.1 (Nat.le_of_ble_eq_true rfl) dX20_number_70 ⟨(Nat.le_of_ble_eq_true rfl), (Nat.le_of_ble_eq_true rfl)⟩) (fun r35 C34 H locs hs9 hI => ?_)
              replace hs := hs9
              refine lv_iadd hx hb dX20_number_73 ?_
              refine lv_bipush (v := 48) hx hb dX20_number_74 (by decide) ?_
              refine lv_isub hx hb dX20_number_76 ?_
              refine lv_istore_n (lv' := [(3, .int (((10 * x24) + r35) - 48)), (0, .ref a0), (1, .int a1), (2, .int a2), (4, .int x25)]) hx hb dX20_number_77 rfl hl (by decide) rfl (fun ls hl => ?_)
              refine lv_iinc (v := (x25 + 1)) (lv' := [(4, .int (x25 + 1)), (3, .int (((10 * x24) + r35) - 48)), (0, .ref a0), (1, .int a1), (2, .int a2)]) hx hb dX20_number_78 hl (k := 4) rfl (congrArg (fun z => x25 + z) (show Int32.ofInt (1) = 1 by decide)) (by decide) rfl (fun ls hl => ?_)
              refine lv_goto (tgt := 38) hx hb dX20_number_81 (by decide) ?_
              exact ihx_X20_number_l38 _ _ _ _ _ _ hs hI (lv_sub hl [2, 3, 4, 1, 0] rfl)
      exact Lx_X20_number_l38 NF _ _ _ _ _ _ hs hI (lv_sub hl [2, 3, 4, 1, 0] rfl)
    · replace hs := ifp c42 hs
      refine x_new X hK hI hA 21 (fs := [.null, .null, .null, .null, .null, .int 0, .int 0]) rfl in_X21 tyX21 tyX21_ok q1074 q1075 q128 rfl (Nat.le_of_ble_eq_true rfl) (Nat.le_of_ble_eq_true rfl) hs dX20_number_21 (fun ad38 C39 H hs9 hI => ?_)
      replace hs := hs9
      refine lv_dup hx hb dX20_number_24 rfl ?_
      refine lv_aload_n hx hb dX20_number_25 rfl (lv_at hl 0 rfl) ?_
      obtain ⟨v40, ev40, hs⟩ := hs
      refine x_get (v := .int v40) X hK hI 20 2 rfl in_X20 rfl q962 rfl (xgi_spec ev40) dX20_number_26 ?_
      refine x_gov hA hI (x_runI (As := [.int v40]) (rest := [.ref ad38]) X hK hA hG hI (xet_X21_init l ad38 v40 _ _ hs) iX21_init rfl q1083 q1084 q128 ⟨(Nat.le_of_ble_eq_true rfl), (Nat.le_of_ble_eq_true rfl)⟩ rfl hl.1 rfl (Nat.le_of_ble_eq_true rfl) dX20_number_29 ⟨(Nat.le_of_ble_eq_true rfl), (Nat.le_of_ble_eq_true rfl)⟩) (fun C41 H locs hs9 hI => ?_)
      replace hs := hs9
      obtain ⟨hf41, hs⟩ := hs
      obtain ⟨f41, hf41⟩ := xcl_spec hf41
      obtain ⟨ce, hce, hvm, hcl⟩ := x_thrown hK hI hf41 rfl
      refine vx_athrow hx hb dX20_number_32 ?_
      exact x_pass X hK hT rfl hI hce hvm hcl ⟨rfl, hs⟩ (Nat.le_of_ble_eq_true rfl) (Nat.le_of_ble_eq_true rfl)
def x_J5_isLatin1 (a0 : Nat) (C : XH) (K : Int32 → XH → Prop) : Prop := K 1 C
theorem iJ5_isLatin1 : xInf yJ5_isLatin1 cJ5_isLatin1 1 (some .boolean) 0 := ⟨q1039, by decide +kernel⟩
set_option maxHeartbeats 4000000 in
theorem xet_J5_isLatin1 (l : Launch) (a0 : Nat) (ha0 : a0 < 8) (C : XH) (K : Int32 → XH → Prop) (hs : x_J5_isLatin1 a0 C K) : xMetS l yJ5_isLatin1 (ws_ yJ5_isLatin1 cJ5_isLatin1 1 (some .boolean)) 0 0 0 0 C (fun adK adV => [.ref (adK a0)]) (fun D dT A => xQz D dT K A) := by
  intro D dT adK adV sz
  refine xEnter (own := RJ5) (Qc := xQz D dT K) (by decide) rfl (by rfl) ?_
  intro p e s m args below meth c A ls X hnm hK hA hG hI hl
  have hx := X.1
  have hb := X.2.1
  have hts := X.2.2.2.2.1
  have hown := X.2.2.2.2.2.1
  have hl : lv_has ls 1 [(0, .ref (adK a0))] := hl
  unfold x_J5_isLatin1 at hs
  refine va_gets (v := .int 1) hx hb hG.2.2.2.2.2.1 hI.2.2 hown (hts _ q1030) (fun x hx => hx) dJ5_isLatin1_0 ?_
  refine lv_if_eq (tgt := 17) hx hb dJ5_isLatin1_3 (by decide) (fun c => absurd c (by decide)) (fun _ => ?_)
  refine lv_aload_n hx hb dJ5_isLatin1_6 rfl (lv_at hl 0 rfl) ?_
  refine vk_getf hx hb (hG.2.2.2.1.1 a0 ha0).2.1 hI.2.2 hown (hts _ q2060) (fun x hx => hx) dJ5_isLatin1_7 ?_
  refine lv_if_ne (tgt := 17) hx hb dJ5_isLatin1_10 (by decide) (fun c => absurd (by decide) c) (fun _ => ?_)
  refine lv_iconst (v := 1) hx hb dJ5_isLatin1_13 (by decide) ?_
  refine lv_goto (tgt := 18) hx hb dJ5_isLatin1_14 (by decide) ?_
  exact x_retz X hK hI isB1 hs (Nat.le_of_ble_eq_true rfl) (Nat.le_of_ble_eq_true rfl) dJ5_isLatin1_18
def x_J10_checkIndex (a0 : Int32) (a1 : Int32) (a2 : Option Nat) (C : XH) (K : Int32 → XH → Prop) : Prop := jn (False) (fun k9_0 => (if a0 < 0 then k9_0 else (if a0 < a1 then K a0 C else k9_0)))
theorem iJ10_checkIndex : xInf yJ10_checkIndex cJ10_checkIndex 3 (some .int) 3 := ⟨q1050, by decide +kernel⟩
set_option maxHeartbeats 4000000 in
theorem xet_J10_checkIndex (l : Launch) (a0 : Int32) (a1 : Int32) (a2 : Option Nat) (C : XH) (K : Int32 → XH → Prop) (hs : x_J10_checkIndex a0 a1 a2 C K) : xMeti l yJ10_checkIndex (ws_ yJ10_checkIndex cJ10_checkIndex 3 (some .int)) 0 0 0 0 C [.int a0, .int a1, va_rf a2] K := by
  intro D dT adK adV sz
  refine xEnter (own := RJ10) (Qc := xQi D dT K) (by decide) rfl (by cases a2 <;> rfl) ?_
  intro p e s m args below meth c A ls X hnm hK hA hG hI hl
  have hx := X.1
  have hb := X.2.1
  have hts := X.2.2.2.2.1
  have hown := X.2.2.2.2.2.1
  have hl : lv_has ls 3 [(0, .int a0), (1, .int a1), (2, va_rf a2)] := hl
  unfold x_J10_checkIndex at hs
  refine lv_iload_n hx hb dJ10_checkIndex_0 rfl (lv_at hl 0 rfl) ?_
  obtain ⟨k9_0, hk9_0, hs⟩ := jn_ex hs
  have Ek9_0 : ∀ (H : Heap) (locs : List Loc) (ls : Array Slot), k9_0 → xI D dT A s.heap C H locs → lv_has ls 3 [(0, .int a0), (1, .int a1), (2, va_rf a2)] → W p l e (xRm 0 0 0 0) s m args below meth c H locs 0 0 (MQ below (xQi D dT K A) args s 0 0 A) (F0 m 9 ls []) := by
    intro H locs ls hs hI hl
    rw [hk9_0] at hs
    refine x_aloado_n hx hb dJ10_checkIndex_9 rfl (lv_at hl 2 rfl) ?_
    refine lv_iload_n hx hb dJ10_checkIndex_10 rfl (lv_at hl 0 rfl) ?_
    refine lv_iload_n hx hb dJ10_checkIndex_11 rfl (lv_at hl 1 rfl) ?_
    exact hs.elim
  refine lv_if_lt (tgt := 9) hx hb dJ10_checkIndex_1 (by decide) (fun c1 => ?_) (fun c1 => ?_)
  · replace hs := ifp c1 hs
    exact Ek9_0 _ _ _ hs hI hl
  · replace hs := ifn c1 hs
    refine lv_iload_n hx hb dJ10_checkIndex_4 rfl (lv_at hl 0 rfl) ?_
    refine lv_iload_n hx hb dJ10_checkIndex_5 rfl (lv_at hl 1 rfl) ?_
    refine lv_icmp_lt (tgt := 16) hx hb dJ10_checkIndex_6 (by decide) (fun c0 => ?_) (fun c0 => ?_)
    · replace hs := ifp c0 hs
      refine lv_iload_n hx hb dJ10_checkIndex_16 rfl (lv_at hl 0 rfl) ?_
      exact x_reti X hK hI hs (Nat.le_of_ble_eq_true rfl) (Nat.le_of_ble_eq_true rfl) dJ10_checkIndex_17
    · replace hs := ifn c0 hs
      exact Ek9_0 _ _ _ hs hI hl
