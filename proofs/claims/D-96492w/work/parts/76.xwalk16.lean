set_option maxRecDepth 100000
def x_X13_falling (a0 : Nat) (a1 : Int32) (a2 : Nat) (C : XH) (K : Int32 → XH → Prop) : Prop := (xcl C a2 = some 1 ∧ x_X1_runs a2 11 C (fun C1 => vd_X13_hopping a0 a1 a2 C1 (fun r4 C3 => K (r4 * 2) C3)))
theorem iX13_falling : xInf yX13_falling cX13_falling 3 (some .int) 2 := ⟨q1412, by decide +kernel⟩
set_option maxHeartbeats 4000000 in
theorem xet_X13_falling (l : Launch) (a0 : Nat) (a1 : Int32) (a2 : Nat) (C : XH) (K : Int32 → XH → Prop) (hs : x_X13_falling a0 a1 a2 C K) : xMeti l yX13_falling (ws_ yX13_falling cX13_falling 3 (some .int)) 4 87 0 0 C [.ref a0, .int a1, .ref a2] K := by
  intro D dT adK adV sz
  refine xEnter (own := RX13) (Qc := xQi D dT K) (by decide) rfl (by rfl) ?_
  intro p e s m args below meth c A ls X hnm hK hA hG hI hl
  have hx := X.1
  have hb := X.2.1
  have hts := X.2.2.2.2.1
  have hown := X.2.2.2.2.2.1
  have hl : lv_has ls 3 [(0, .ref a0), (1, .int a1), (2, .ref a2)] := hl
  unfold x_X13_falling at hs
  refine lv_aload_n hx hb dX13_falling_0 rfl (lv_at hl 2 rfl) ?_
  refine lv_bipush (v := 11) hx hb dX13_falling_1 (by decide) ?_
  obtain ⟨h1, hs⟩ := hs
  obtain ⟨fh1, h1⟩ := xcl_spec h1
  refine x_gov hA hI (x_runV (As := [.int 11]) (rest := []) X hK hA hG hI h1 (q := (RX1, TX1, 2)) rfl rfl (xet_X1_runs l a2 11 _ _ hs) iX1_runs q1387 q1382 q1383 q95 ⟨(Nat.le_of_ble_eq_true rfl), (Nat.le_of_ble_eq_true rfl)⟩ rfl hl.1 rfl (Nat.le_of_ble_eq_true rfl) dX13_falling_3 ⟨(Nat.le_of_ble_eq_true rfl), (Nat.le_of_ble_eq_true rfl)⟩) (fun C1 H locs hs9 hI => ?_)
  replace hs := hs9
  refine lv_aload_n hx hb dX13_falling_6 rfl (lv_at hl 0 rfl) ?_
  refine lv_iload_n hx hb dX13_falling_7 rfl (lv_at hl 1 rfl) ?_
  refine lv_aload_n hx hb dX13_falling_8 rfl (lv_at hl 2 rfl) ?_
  refine x_goi hA hI (vdc_X13_hopping (rest := []) X hK hA hG hI a0 a1 a2 _ hs q1413 ⟨(Nat.le_of_ble_eq_true rfl), (Nat.le_of_ble_eq_true rfl)⟩ hl.1 (Nat.le_of_ble_eq_true rfl) dX13_falling_9 ⟨(Nat.le_of_ble_eq_true rfl), (Nat.le_of_ble_eq_true rfl)⟩) (fun r4 C3 H locs hs9 hI => ?_)
  replace hs := hs9
  refine lv_iconst (v := 2) hx hb dX13_falling_12 (by decide) ?_
  refine lv_imul hx hb dX13_falling_13 ?_
  exact x_reti X hK hI hs (Nat.le_of_ble_eq_true rfl) (Nat.le_of_ble_eq_true rfl) dX13_falling_14
def x_X16_falling (a0 : Nat) (a1 : Int32) (a2 : Nat) (C : XH) (K : Int32 → XH → Prop) : Prop := (xcl C a2 = some 1 ∧ x_X1_runs a2 40 C (fun C1 => obd (xcl C1 a0) (fun ch4 => xisH ch4 = true ∧ x_X13_falling a0 (a1 + 1) a2 C1 (fun r4 C3 => K r4 C3))))
theorem iX16_falling : xInf yX16_falling cX16_falling 3 (some .int) 2 := ⟨q1407, by decide +kernel⟩
set_option maxHeartbeats 4000000 in
theorem xet_X16_falling (l : Launch) (a0 : Nat) (a1 : Int32) (a2 : Nat) (C : XH) (K : Int32 → XH → Prop) (hs : x_X16_falling a0 a1 a2 C K) : xMeti l yX16_falling (ws_ yX16_falling cX16_falling 3 (some .int)) 5 109 0 0 C [.ref a0, .int a1, .ref a2] K := by
  intro D dT adK adV sz
  refine xEnter (own := RX16) (Qc := xQi D dT K) (by decide) rfl (by rfl) ?_
  intro p e s m args below meth c A ls X hnm hK hA hG hI hl
  have hx := X.1
  have hb := X.2.1
  have hts := X.2.2.2.2.1
  have hown := X.2.2.2.2.2.1
  have hl : lv_has ls 3 [(0, .ref a0), (1, .int a1), (2, .ref a2)] := hl
  unfold x_X16_falling at hs
  refine lv_aload_n hx hb dX16_falling_0 rfl (lv_at hl 2 rfl) ?_
  refine lv_bipush (v := 40) hx hb dX16_falling_1 (by decide) ?_
  obtain ⟨h1, hs⟩ := hs
  obtain ⟨fh1, h1⟩ := xcl_spec h1
  refine x_gov hA hI (x_runV (As := [.int 40]) (rest := []) X hK hA hG hI h1 (q := (RX1, TX1, 2)) rfl rfl (xet_X1_runs l a2 40 _ _ hs) iX1_runs q1408 q1382 q1383 q95 ⟨(Nat.le_of_ble_eq_true rfl), (Nat.le_of_ble_eq_true rfl)⟩ rfl hl.1 rfl (Nat.le_of_ble_eq_true rfl) dX16_falling_3 ⟨(Nat.le_of_ble_eq_true rfl), (Nat.le_of_ble_eq_true rfl)⟩) (fun C1 H locs hs9 hI => ?_)
  replace hs := hs9
  refine lv_aload_n hx hb dX16_falling_6 rfl (lv_at hl 0 rfl) ?_
  refine lv_iload_n hx hb dX16_falling_7 rfl (lv_at hl 1 rfl) ?_
  refine lv_iconst (v := 1) hx hb dX16_falling_8 (by decide) ?_
  refine lv_iadd hx hb dX16_falling_9 ?_
  refine lv_aload_n hx hb dX16_falling_10 rfl (lv_at hl 2 rfl) ?_
  obtain ⟨ch4, h4, gh4, hs⟩ := hs
  obtain ⟨fh4, h4⟩ := xcl_spec h4
  obtain ⟨ah4, gh4⟩ := x_aclH gh4
  refine x_goi hA hI (x_runSP (As := [.int (a1 + 1), .ref a2]) (rest := []) (owner := RX13) X hK hA hG hI h4 gh4 (xet_X13_falling l a0 (a1 + 1) a2 _ _ hs) iX13_falling (by decide) rfl q1409 q1410 q682 q685 q1402 q117 ⟨(Nat.le_of_ble_eq_true rfl), (Nat.le_of_ble_eq_true rfl)⟩ rfl hl.1 rfl (Nat.le_of_ble_eq_true rfl) dX16_falling_11 ⟨(Nat.le_of_ble_eq_true rfl), (Nat.le_of_ble_eq_true rfl)⟩) (fun r4 C3 H locs hs9 hI => ?_)
  replace hs := hs9
  exact x_reti X hK hI hs (Nat.le_of_ble_eq_true rfl) (Nat.le_of_ble_eq_true rfl) dX16_falling_14
def x_X15_falling (a0 : Nat) (a1 : Int32) (a2 : Nat) (C : XH) (K : Int32 → XH → Prop) : Prop := (xcl C a2 = some 1 ∧ x_X1_runs a2 30 C (fun C1 => obd (xcl C1 a0) (fun ch4 => xisH ch4 = true ∧ x_X13_falling a0 a1 a2 C1 (fun r4 C3 => K (r4 * 3) C3))))
theorem iX15_falling : xInf yX15_falling cX15_falling 3 (some .int) 2 := ⟨q1417, by decide +kernel⟩
set_option maxHeartbeats 4000000 in
theorem xet_X15_falling (l : Launch) (a0 : Nat) (a1 : Int32) (a2 : Nat) (C : XH) (K : Int32 → XH → Prop) (hs : x_X15_falling a0 a1 a2 C K) : xMeti l yX15_falling (ws_ yX15_falling cX15_falling 3 (some .int)) 5 109 0 0 C [.ref a0, .int a1, .ref a2] K := by
  intro D dT adK adV sz
  refine xEnter (own := RX15) (Qc := xQi D dT K) (by decide) rfl (by rfl) ?_
  intro p e s m args below meth c A ls X hnm hK hA hG hI hl
  have hx := X.1
  have hb := X.2.1
  have hts := X.2.2.2.2.1
  have hown := X.2.2.2.2.2.1
  have hl : lv_has ls 3 [(0, .ref a0), (1, .int a1), (2, .ref a2)] := hl
  unfold x_X15_falling at hs
  refine lv_aload_n hx hb dX15_falling_0 rfl (lv_at hl 2 rfl) ?_
  refine lv_bipush (v := 30) hx hb dX15_falling_1 (by decide) ?_
  obtain ⟨h1, hs⟩ := hs
  obtain ⟨fh1, h1⟩ := xcl_spec h1
  refine x_gov hA hI (x_runV (As := [.int 30]) (rest := []) X hK hA hG hI h1 (q := (RX1, TX1, 2)) rfl rfl (xet_X1_runs l a2 30 _ _ hs) iX1_runs q1418 q1382 q1383 q95 ⟨(Nat.le_of_ble_eq_true rfl), (Nat.le_of_ble_eq_true rfl)⟩ rfl hl.1 rfl (Nat.le_of_ble_eq_true rfl) dX15_falling_3 ⟨(Nat.le_of_ble_eq_true rfl), (Nat.le_of_ble_eq_true rfl)⟩) (fun C1 H locs hs9 hI => ?_)
  replace hs := hs9
  refine lv_aload_n hx hb dX15_falling_6 rfl (lv_at hl 0 rfl) ?_
  refine lv_iload_n hx hb dX15_falling_7 rfl (lv_at hl 1 rfl) ?_
  refine lv_aload_n hx hb dX15_falling_8 rfl (lv_at hl 2 rfl) ?_
  obtain ⟨ch4, h4, gh4, hs⟩ := hs
  obtain ⟨fh4, h4⟩ := xcl_spec h4
  obtain ⟨ah4, gh4⟩ := x_aclH gh4
  refine x_goi hA hI (x_runSU (As := [.int a1, .ref a2]) (rest := []) X hK hA hG hI h4 gh4 (xet_X13_falling l a0 a1 a2 _ _ hs) iX13_falling (by decide) q1419 q1404 q723 q1402 q117 ⟨(Nat.le_of_ble_eq_true rfl), (Nat.le_of_ble_eq_true rfl)⟩ rfl hl.1 rfl (Nat.le_of_ble_eq_true rfl) dX15_falling_9 ⟨(Nat.le_of_ble_eq_true rfl), (Nat.le_of_ble_eq_true rfl)⟩) (fun r4 C3 H locs hs9 hI => ?_)
  replace hs := hs9
  refine lv_iconst (v := 3) hx hb dX15_falling_12 (by decide) ?_
  refine lv_imul hx hb dX15_falling_13 ?_
  exact x_reti X hK hI hs (Nat.le_of_ble_eq_true rfl) (Nat.le_of_ble_eq_true rfl) dX15_falling_14
def x_X19_falling (a0 : Nat) (a1 : Int32) (a2 : Nat) (C : XH) (K : Int32 → XH → Prop) : Prop := (xcl C a2 = some 1 ∧ x_X1_runs a2 71 C (fun C1 => obd (xgi C1 xisH a0 1) (fun v3 => obd (xcl C1 a0) (fun ch5 => xisH ch5 = true ∧ x_X13_falling a0 (a1 - v3) a2 C1 (fun r5 C4 => K r5 C4)))))
theorem iX19_falling : xInf yX19_falling cX19_falling 3 (some .int) 2 := ⟨q1424, by decide +kernel⟩
set_option maxHeartbeats 4000000 in
theorem xet_X19_falling (l : Launch) (a0 : Nat) (a1 : Int32) (a2 : Nat) (C : XH) (K : Int32 → XH → Prop) (hs : x_X19_falling a0 a1 a2 C K) : xMeti l yX19_falling (ws_ yX19_falling cX19_falling 3 (some .int)) 5 109 0 0 C [.ref a0, .int a1, .ref a2] K := by
  intro D dT adK adV sz
  refine xEnter (own := RX19) (Qc := xQi D dT K) (by decide) rfl (by rfl) ?_
  intro p e s m args below meth c A ls X hnm hK hA hG hI hl
  have hx := X.1
  have hb := X.2.1
  have hts := X.2.2.2.2.1
  have hown := X.2.2.2.2.2.1
  have hl : lv_has ls 3 [(0, .ref a0), (1, .int a1), (2, .ref a2)] := hl
  unfold x_X19_falling at hs
  refine lv_aload_n hx hb dX19_falling_0 rfl (lv_at hl 2 rfl) ?_
  refine lv_bipush (v := 71) hx hb dX19_falling_1 (by decide) ?_
  obtain ⟨h1, hs⟩ := hs
  obtain ⟨fh1, h1⟩ := xcl_spec h1
  refine x_gov hA hI (x_runV (As := [.int 71]) (rest := []) X hK hA hG hI h1 (q := (RX1, TX1, 2)) rfl rfl (xet_X1_runs l a2 71 _ _ hs) iX1_runs q1399 q1382 q1383 q95 ⟨(Nat.le_of_ble_eq_true rfl), (Nat.le_of_ble_eq_true rfl)⟩ rfl hl.1 rfl (Nat.le_of_ble_eq_true rfl) dX19_falling_3 ⟨(Nat.le_of_ble_eq_true rfl), (Nat.le_of_ble_eq_true rfl)⟩) (fun C1 H locs hs9 hI => ?_)
  replace hs := hs9
  refine lv_aload_n hx hb dX19_falling_6 rfl (lv_at hl 0 rfl) ?_
  refine lv_iload_n hx hb dX19_falling_7 rfl (lv_at hl 1 rfl) ?_
  refine lv_aload_n hx hb dX19_falling_8 rfl (lv_at hl 0 rfl) ?_
  obtain ⟨v3, ev3, hs⟩ := hs
  refine x_getH (v := .int v3) X hK hI 1 (by decide) q809 (x_same X q810) (xgi_spec ev3) dX19_falling_9 ?_
  refine lv_isub hx hb dX19_falling_12 ?_
  refine lv_aload_n hx hb dX19_falling_13 rfl (lv_at hl 2 rfl) ?_
  obtain ⟨ch5, h5, gh5, hs⟩ := hs
  obtain ⟨fh5, h5⟩ := xcl_spec h5
  obtain ⟨ah5, gh5⟩ := x_aclH gh5
  refine x_goi hA hI (x_runSP (As := [.int (a1 - v3), .ref a2]) (rest := []) (owner := RX13) X hK hA hG hI h5 gh5 (xet_X13_falling l a0 (a1 - v3) a2 _ _ hs) iX13_falling (by decide) rfl q1425 q1426 q738 q765 q1402 q117 ⟨(Nat.le_of_ble_eq_true rfl), (Nat.le_of_ble_eq_true rfl)⟩ rfl hl.1 rfl (Nat.le_of_ble_eq_true rfl) dX19_falling_14 ⟨(Nat.le_of_ble_eq_true rfl), (Nat.le_of_ble_eq_true rfl)⟩) (fun r5 C4 H locs hs9 hI => ?_)
  replace hs := hs9
  exact x_reti X hK hI hs (Nat.le_of_ble_eq_true rfl) (Nat.le_of_ble_eq_true rfl) dX19_falling_17
def vd_X13_falling (b : Nat) (a1 : Int32) (a2 : Nat) (C : XH) (K : Int32 → XH → Prop) : Prop := obd (xcl C b) (fun ci => if ci = 13 then x_X13_falling b a1 a2 C K else if ci = 14 then x_X13_falling b a1 a2 C K else if ci = 15 then x_X15_falling b a1 a2 C K else if ci = 16 then x_X16_falling b a1 a2 C K else if ci = 17 then x_X13_falling b a1 a2 C K else if ci = 18 then x_X15_falling b a1 a2 C K else if ci = 19 then x_X19_falling b a1 a2 C K else False)
theorem vdc_X13_falling {p : Program} {l : Launch} {e : Env} {R : Room} {s : State} {m : MethodId} {args : Array Value} {below : List Frame} {meth : Method} {c : Code} {H : Heap} {locs : List Loc} {cells slots : Nat} {own : String} {cc : ByteArray} {nL : Nat} {ret : Option FieldType} {pc : Nat} {ls : Array Slot} {rest : List Value} {D : va_G} {dT : Nat → ClassId} {adK adV : Nat → Nat} {A : Nat → Prop} {C : XH} {index : Nat} (X : xX p s m args meth c own cc nL ret) (hK : va_K D aCl (aT dT) s) (hA : ∀ q : Nat, s.heap.size ≤ q → A q) (hG : xG adK adV A s s.heap) (hI : xI D dT A s.heap C H locs) (b : Nat) (a1 : Int32) (a2 : Nat) (K : Int32 → XH → Prop) (hs : vd_X13_falling b a1 a2 C K) (w1 : Cond.methodLink own index ⟨RX13, "falling", "(ILInASackToTheRope$Trace;)I"⟩ ∈ lw_all) (hR : 5 + 1 ≤ R.frames ∧ 8 + (0 + 11) + 112 ≤ R.locals) (hsz : ls.size = nL) (hrm : (rest.map fun v => v.category).sum ≤ 8) (hdg : decode cc pc = .ok (.invokevirtual index, 3)) (hf : cells + 0 ≤ R.cells ∧ slots + 0 ≤ R.slots) : xCtx p l e R s m args below meth c H locs cells slots 0 0 D dT C pc ls ([.ref a2, .int a1] ++ .ref b :: rest) rest (fun D dT A => xQi D dT K A) (.ref b :: [.int a1, .ref a2]) := by
  obtain ⟨ci, hci, hs⟩ := hs
  obtain ⟨fs, hb⟩ := xcl_spec hci
  by_cases h13 : ci = 13
  · subst h13
    replace hs := ifp rfl hs
    exact x_runO (As := [.int a1, .ref a2]) X hK hA hG hI hb (q := (RX13, TX13, 2)) rfl (xet_X13_falling l b a1 a2 _ _ hs) iX13_falling RX13 w1 q1404 q1402 q1403 q1402 q117 q1412 (by decide +kernel) ⟨Nat.le_trans (Nat.le_of_ble_eq_true rfl) hR.1, Nat.le_trans (Nat.le_of_ble_eq_true rfl) hR.2⟩ rfl hsz rfl hrm hdg hf
  · replace hs := ifn h13 hs
    by_cases h14 : ci = 14
    · subst h14
      replace hs := ifp rfl hs
      exact x_runO (As := [.int a1, .ref a2]) X hK hA hG hI hb (q := (RX14, TX14, 2)) rfl (xet_X13_falling l b a1 a2 _ _ hs) iX13_falling RX13 w1 q1404 q1402 q1414 q1402 q117 q1412 (by decide +kernel) ⟨Nat.le_trans (Nat.le_of_ble_eq_true rfl) hR.1, Nat.le_trans (Nat.le_of_ble_eq_true rfl) hR.2⟩ rfl hsz rfl hrm hdg hf
    · replace hs := ifn h14 hs
      by_cases h15 : ci = 15
      · subst h15
        replace hs := ifp rfl hs
        exact x_runO (As := [.int a1, .ref a2]) X hK hA hG hI hb (q := (RX15, TX15, 2)) rfl (xet_X15_falling l b a1 a2 _ _ hs) iX15_falling RX13 w1 q1404 q1402 q1415 q1416 q119 q1412 (by decide +kernel) ⟨Nat.le_trans (Nat.le_of_ble_eq_true rfl) hR.1, Nat.le_trans (Nat.le_of_ble_eq_true rfl) hR.2⟩ rfl hsz rfl hrm hdg hf
      · replace hs := ifn h15 hs
        by_cases h16 : ci = 16
        · subst h16
          replace hs := ifp rfl hs
          exact x_runO (As := [.int a1, .ref a2]) X hK hA hG hI hb (q := (RX16, TX16, 2)) rfl (xet_X16_falling l b a1 a2 _ _ hs) iX16_falling RX13 w1 q1404 q1402 q1405 q1406 q120 q1412 (by decide +kernel) ⟨Nat.le_trans (Nat.le_of_ble_eq_true rfl) hR.1, Nat.le_trans (Nat.le_of_ble_eq_true rfl) hR.2⟩ rfl hsz rfl hrm hdg hf
        · replace hs := ifn h16 hs
          by_cases h17 : ci = 17
          · subst h17
            replace hs := ifp rfl hs
            exact x_runO (As := [.int a1, .ref a2]) X hK hA hG hI hb (q := (RX17, TX17, 2)) rfl (xet_X13_falling l b a1 a2 _ _ hs) iX13_falling RX13 w1 q1404 q1402 q1421 q1402 q117 q1412 (by decide +kernel) ⟨Nat.le_trans (Nat.le_of_ble_eq_true rfl) hR.1, Nat.le_trans (Nat.le_of_ble_eq_true rfl) hR.2⟩ rfl hsz rfl hrm hdg hf
          · replace hs := ifn h17 hs
            by_cases h18 : ci = 18
            · subst h18
              replace hs := ifp rfl hs
              exact x_runO (As := [.int a1, .ref a2]) X hK hA hG hI hb (q := (RX18, TX18, 2)) rfl (xet_X15_falling l b a1 a2 _ _ hs) iX15_falling RX13 w1 q1404 q1402 q1420 q1416 q119 q1412 (by decide +kernel) ⟨Nat.le_trans (Nat.le_of_ble_eq_true rfl) hR.1, Nat.le_trans (Nat.le_of_ble_eq_true rfl) hR.2⟩ rfl hsz rfl hrm hdg hf
            · replace hs := ifn h18 hs
              by_cases h19 : ci = 19
              · subst h19
                replace hs := ifp rfl hs
                exact x_runO (As := [.int a1, .ref a2]) X hK hA hG hI hb (q := (RX19, TX19, 2)) rfl (xet_X19_falling l b a1 a2 _ _ hs) iX19_falling RX13 w1 q1404 q1402 q1422 q1423 q123 q1412 (by decide +kernel) ⟨Nat.le_trans (Nat.le_of_ble_eq_true rfl) hR.1, Nat.le_trans (Nat.le_of_ble_eq_true rfl) hR.2⟩ rfl hsz rfl hrm hdg hf
              · replace hs := ifn h19 hs
                exact hs.elim
def x_X13_rising (a0 : Nat) (a1 : Int32) (a2 : Nat) (C : XH) (K : Int32 → XH → Prop) : Prop := (xcl C a2 = some 1 ∧ x_X1_runs a2 12 C (fun C1 => vd_X13_falling a0 a1 a2 C1 (fun r4 C3 => obd (xgi C3 xisH a0 1) (fun v5 => vd_X13_hopping a0 (a1 - v5) a2 C3 (fun r7 C6 => K (r4 ^^^ r7) C6)))))
theorem iX13_rising : xInf yX13_rising cX13_rising 4 (some .int) 2 := ⟨q1441, by decide +kernel⟩
set_option maxHeartbeats 4000000 in
theorem xet_X13_rising (l : Launch) (a0 : Nat) (a1 : Int32) (a2 : Nat) (C : XH) (K : Int32 → XH → Prop) (hs : x_X13_rising a0 a1 a2 C K) : xMeti l yX13_rising (ws_ yX13_rising cX13_rising 4 (some .int)) 6 131 0 0 C [.ref a0, .int a1, .ref a2] K := by
  intro D dT adK adV sz
  refine xEnter (own := RX13) (Qc := xQi D dT K) (by decide) rfl (by rfl) ?_
  intro p e s m args below meth c A ls X hnm hK hA hG hI hl
  have hx := X.1
  have hb := X.2.1
  have hts := X.2.2.2.2.1
  have hown := X.2.2.2.2.2.1
  have hl : lv_has ls 4 [(0, .ref a0), (1, .int a1), (2, .ref a2)] := hl
  unfold x_X13_rising at hs
  refine lv_aload_n hx hb dX13_rising_0 rfl (lv_at hl 2 rfl) ?_
  refine lv_bipush (v := 12) hx hb dX13_rising_1 (by decide) ?_
  obtain ⟨h1, hs⟩ := hs
  obtain ⟨fh1, h1⟩ := xcl_spec h1
  refine x_gov hA hI (x_runV (As := [.int 12]) (rest := []) X hK hA hG hI h1 (q := (RX1, TX1, 2)) rfl rfl (xet_X1_runs l a2 12 _ _ hs) iX1_runs q1387 q1382 q1383 q95 ⟨(Nat.le_of_ble_eq_true rfl), (Nat.le_of_ble_eq_true rfl)⟩ rfl hl.1 rfl (Nat.le_of_ble_eq_true rfl) dX13_rising_3 ⟨(Nat.le_of_ble_eq_true rfl), (Nat.le_of_ble_eq_true rfl)⟩) (fun C1 H locs hs9 hI => ?_)
  replace hs := hs9
  refine lv_aload_n hx hb dX13_rising_6 rfl (lv_at hl 0 rfl) ?_
  refine lv_iload_n hx hb dX13_rising_7 rfl (lv_at hl 1 rfl) ?_
  refine lv_aload_n hx hb dX13_rising_8 rfl (lv_at hl 2 rfl) ?_
  refine x_goi hA hI (vdc_X13_falling (rest := []) X hK hA hG hI a0 a1 a2 _ hs q1442 ⟨(Nat.le_of_ble_eq_true rfl), (Nat.le_of_ble_eq_true rfl)⟩ hl.1 (Nat.le_of_ble_eq_true rfl) dX13_rising_9 ⟨(Nat.le_of_ble_eq_true rfl), (Nat.le_of_ble_eq_true rfl)⟩) (fun r4 C3 H locs hs9 hI => ?_)
  replace hs := hs9
  refine lv_istore_n (lv' := [(3, .int r4), (0, .ref a0), (1, .int a1), (2, .ref a2)]) hx hb dX13_rising_12 rfl hl (by decide) rfl (fun ls hl => ?_)
  refine lv_iload_n hx hb dX13_rising_13 rfl (lv_at hl 0 rfl) ?_
  refine lv_aload_n hx hb dX13_rising_14 rfl (lv_at hl 1 rfl) ?_
  refine lv_iload_n hx hb dX13_rising_15 rfl (lv_at hl 2 rfl) ?_
  refine lv_aload_n hx hb dX13_rising_16 rfl (lv_at hl 1 rfl) ?_
  obtain ⟨v5, ev5, hs⟩ := hs
  refine x_getH (v := .int v5) X hK hI 1 (by decide) q804 (fun x hx => hx) (xgi_spec ev5) dX13_rising_17 ?_
  refine lv_isub hx hb dX13_rising_20 ?_
  refine lv_aload_n hx hb dX13_rising_21 rfl (lv_at hl 3 rfl) ?_
  refine x_goi hA hI (vdc_X13_hopping (rest := [.int r4]) X hK hA hG hI a0 (a1 - v5) a2 _ hs q1413 ⟨(Nat.le_of_ble_eq_true rfl), (Nat.le_of_ble_eq_true rfl)⟩ hl.1 (Nat.le_of_ble_eq_true rfl) dX13_rising_22 ⟨(Nat.le_of_ble_eq_true rfl), (Nat.le_of_ble_eq_true rfl)⟩) (fun r7 C6 H locs hs9 hI => ?_)
  replace hs := hs9
  refine lv_ixor hx hb dX13_rising_25 ?_
  exact x_reti X hK hI hs (Nat.le_of_ble_eq_true rfl) (Nat.le_of_ble_eq_true rfl) dX13_rising_26
def x_X18_rising (a0 : Nat) (a1 : Int32) (a2 : Nat) (C : XH) (K : Int32 → XH → Prop) : Prop := (xcl C a2 = some 1 ∧ x_X1_runs a2 60 C (fun C1 => obd (xcl C1 a0) (fun ch4 => xisH ch4 = true ∧ x_X13_rising a0 a1 a2 C1 (fun r4 C3 => K (r4 ^^^ 5) C3))))
theorem iX18_rising : xInf yX18_rising cX18_rising 3 (some .int) 2 := ⟨q1436, by decide +kernel⟩
set_option maxHeartbeats 4000000 in
theorem xet_X18_rising (l : Launch) (a0 : Nat) (a1 : Int32) (a2 : Nat) (C : XH) (K : Int32 → XH → Prop) (hs : x_X18_rising a0 a1 a2 C K) : xMeti l yX18_rising (ws_ yX18_rising cX18_rising 3 (some .int)) 7 154 0 0 C [.ref a0, .int a1, .ref a2] K := by
  intro D dT adK adV sz
  refine xEnter (own := RX18) (Qc := xQi D dT K) (by decide) rfl (by rfl) ?_
  intro p e s m args below meth c A ls X hnm hK hA hG hI hl
  have hx := X.1
  have hb := X.2.1
  have hts := X.2.2.2.2.1
  have hown := X.2.2.2.2.2.1
  have hl : lv_has ls 3 [(0, .ref a0), (1, .int a1), (2, .ref a2)] := hl
  unfold x_X18_rising at hs
  refine lv_aload_n hx hb dX18_rising_0 rfl (lv_at hl 2 rfl) ?_
  refine lv_bipush (v := 60) hx hb dX18_rising_1 (by decide) ?_
  obtain ⟨h1, hs⟩ := hs
  obtain ⟨fh1, h1⟩ := xcl_spec h1
  refine x_gov hA hI (x_runV (As := [.int 60]) (rest := []) X hK hA hG hI h1 (q := (RX1, TX1, 2)) rfl rfl (xet_X1_runs l a2 60 _ _ hs) iX1_runs q1437 q1382 q1383 q95 ⟨(Nat.le_of_ble_eq_true rfl), (Nat.le_of_ble_eq_true rfl)⟩ rfl hl.1 rfl (Nat.le_of_ble_eq_true rfl) dX18_rising_3 ⟨(Nat.le_of_ble_eq_true rfl), (Nat.le_of_ble_eq_true rfl)⟩) (fun C1 H locs hs9 hI => ?_)
  replace hs := hs9
  refine lv_aload_n hx hb dX18_rising_6 rfl (lv_at hl 0 rfl) ?_
  refine lv_iload_n hx hb dX18_rising_7 rfl (lv_at hl 1 rfl) ?_
  refine lv_aload_n hx hb dX18_rising_8 rfl (lv_at hl 2 rfl) ?_
  obtain ⟨ch4, h4, gh4, hs⟩ := hs
  obtain ⟨fh4, h4⟩ := xcl_spec h4
  obtain ⟨ah4, gh4⟩ := x_aclH gh4
  refine x_goi hA hI (x_runSP (As := [.int a1, .ref a2]) (rest := []) (owner := RX13) X hK hA hG hI h4 gh4 (xet_X13_rising l a0 a1 a2 _ _ hs) iX13_rising (by decide) rfl q1438 q1439 q848 q723 q1428 q117 ⟨(Nat.le_of_ble_eq_true rfl), (Nat.le_of_ble_eq_true rfl)⟩ rfl hl.1 rfl (Nat.le_of_ble_eq_true rfl) dX18_rising_9 ⟨(Nat.le_of_ble_eq_true rfl), (Nat.le_of_ble_eq_true rfl)⟩) (fun r4 C3 H locs hs9 hI => ?_)
  replace hs := hs9
  refine lv_iconst (v := 5) hx hb dX18_rising_12 (by decide) ?_
  refine lv_ixor hx hb dX18_rising_13 ?_
  exact x_reti X hK hI hs (Nat.le_of_ble_eq_true rfl) (Nat.le_of_ble_eq_true rfl) dX18_rising_14
def x_X17_rising (a0 : Nat) (a1 : Int32) (a2 : Nat) (C : XH) (K : Int32 → XH → Prop) : Prop := (xcl C a2 = some 1 ∧ x_X1_runs a2 50 C (fun C1 => obd (xcl C1 a0) (fun ch4 => xisH ch4 = true ∧ x_X13_rising a0 a1 a2 C1 (fun r4 C3 => K (-r4) C3))))
theorem iX17_rising : xInf yX17_rising cX17_rising 3 (some .int) 2 := ⟨q1445, by decide +kernel⟩
set_option maxHeartbeats 4000000 in
theorem xet_X17_rising (l : Launch) (a0 : Nat) (a1 : Int32) (a2 : Nat) (C : XH) (K : Int32 → XH → Prop) (hs : x_X17_rising a0 a1 a2 C K) : xMeti l yX17_rising (ws_ yX17_rising cX17_rising 3 (some .int)) 7 154 0 0 C [.ref a0, .int a1, .ref a2] K := by
  intro D dT adK adV sz
  refine xEnter (own := RX17) (Qc := xQi D dT K) (by decide) rfl (by rfl) ?_
  intro p e s m args below meth c A ls X hnm hK hA hG hI hl
  have hx := X.1
  have hb := X.2.1
  have hts := X.2.2.2.2.1
  have hown := X.2.2.2.2.2.1
  have hl : lv_has ls 3 [(0, .ref a0), (1, .int a1), (2, .ref a2)] := hl
  unfold x_X17_rising at hs
  refine lv_aload_n hx hb dX17_rising_0 rfl (lv_at hl 2 rfl) ?_
  refine lv_bipush (v := 50) hx hb dX17_rising_1 (by decide) ?_
  obtain ⟨h1, hs⟩ := hs
  obtain ⟨fh1, h1⟩ := xcl_spec h1
  refine x_gov hA hI (x_runV (As := [.int 50]) (rest := []) X hK hA hG hI h1 (q := (RX1, TX1, 2)) rfl rfl (xet_X1_runs l a2 50 _ _ hs) iX1_runs q1394 q1382 q1383 q95 ⟨(Nat.le_of_ble_eq_true rfl), (Nat.le_of_ble_eq_true rfl)⟩ rfl hl.1 rfl (Nat.le_of_ble_eq_true rfl) dX17_rising_3 ⟨(Nat.le_of_ble_eq_true rfl), (Nat.le_of_ble_eq_true rfl)⟩) (fun C1 H locs hs9 hI => ?_)
  replace hs := hs9
  refine lv_aload_n hx hb dX17_rising_6 rfl (lv_at hl 0 rfl) ?_
  refine lv_iload_n hx hb dX17_rising_7 rfl (lv_at hl 1 rfl) ?_
  refine lv_aload_n hx hb dX17_rising_8 rfl (lv_at hl 2 rfl) ?_
  obtain ⟨ch4, h4, gh4, hs⟩ := hs
  obtain ⟨fh4, h4⟩ := xcl_spec h4
  obtain ⟨ah4, gh4⟩ := x_aclH gh4
  refine x_goi hA hI (x_runSU (As := [.int a1, .ref a2]) (rest := []) X hK hA hG hI h4 gh4 (xet_X13_rising l a0 a1 a2 _ _ hs) iX13_rising (by decide) q1446 q1430 q765 q1428 q117 ⟨(Nat.le_of_ble_eq_true rfl), (Nat.le_of_ble_eq_true rfl)⟩ rfl hl.1 rfl (Nat.le_of_ble_eq_true rfl) dX17_rising_9 ⟨(Nat.le_of_ble_eq_true rfl), (Nat.le_of_ble_eq_true rfl)⟩) (fun r4 C3 H locs hs9 hI => ?_)
  replace hs := hs9
  refine lv_ineg hx hb dX17_rising_12 ?_
  exact x_reti X hK hI hs (Nat.le_of_ble_eq_true rfl) (Nat.le_of_ble_eq_true rfl) dX17_rising_13
def vd_X13_rising (b : Nat) (a1 : Int32) (a2 : Nat) (C : XH) (K : Int32 → XH → Prop) : Prop := obd (xcl C b) (fun ci => if ci = 13 then x_X13_rising b a1 a2 C K else if ci = 14 then x_X13_rising b a1 a2 C K else if ci = 15 then x_X13_rising b a1 a2 C K else if ci = 16 then x_X13_rising b a1 a2 C K else if ci = 17 then x_X17_rising b a1 a2 C K else if ci = 18 then x_X18_rising b a1 a2 C K else if ci = 19 then x_X17_rising b a1 a2 C K else False)
theorem vdc_X13_rising {p : Program} {l : Launch} {e : Env} {R : Room} {s : State} {m : MethodId} {args : Array Value} {below : List Frame} {meth : Method} {c : Code} {H : Heap} {locs : List Loc} {cells slots : Nat} {own : String} {cc : ByteArray} {nL : Nat} {ret : Option FieldType} {pc : Nat} {ls : Array Slot} {rest : List Value} {D : va_G} {dT : Nat → ClassId} {adK adV : Nat → Nat} {A : Nat → Prop} {C : XH} {index : Nat} (X : xX p s m args meth c own cc nL ret) (hK : va_K D aCl (aT dT) s) (hA : ∀ q : Nat, s.heap.size ≤ q → A q) (hG : xG adK adV A s s.heap) (hI : xI D dT A s.heap C H locs) (b : Nat) (a1 : Int32) (a2 : Nat) (K : Int32 → XH → Prop) (hs : vd_X13_rising b a1 a2 C K) (w1 : Cond.methodLink own index ⟨RX13, "rising", "(ILInASackToTheRope$Trace;)I"⟩ ∈ lw_all) (hR : 7 + 1 ≤ R.frames ∧ 8 + (0 + 11) + 157 ≤ R.locals) (hsz : ls.size = nL) (hrm : (rest.map fun v => v.category).sum ≤ 8) (hdg : decode cc pc = .ok (.invokevirtual index, 3)) (hf : cells + 0 ≤ R.cells ∧ slots + 0 ≤ R.slots) : xCtx p l e R s m args below meth c H locs cells slots 0 0 D dT C pc ls ([.ref a2, .int a1] ++ .ref b :: rest) rest (fun D dT A => xQi D dT K A) (.ref b :: [.int a1, .ref a2]) := by
  obtain ⟨ci, hci, hs⟩ := hs
  obtain ⟨fs, hb⟩ := xcl_spec hci
  by_cases h13 : ci = 13
  · subst h13
    replace hs := ifp rfl hs
    exact x_runO (As := [.int a1, .ref a2]) X hK hA hG hI hb (q := (RX13, TX13, 2)) rfl (xet_X13_rising l b a1 a2 _ _ hs) iX13_rising RX13 w1 q1430 q1428 q1429 q1428 q117 q1441 (by decide +kernel) ⟨Nat.le_trans (Nat.le_of_ble_eq_true rfl) hR.1, Nat.le_trans (Nat.le_of_ble_eq_true rfl) hR.2⟩ rfl hsz rfl hrm hdg hf
  · replace hs := ifn h13 hs
    by_cases h14 : ci = 14
    · subst h14
      replace hs := ifp rfl hs
      exact x_runO (As := [.int a1, .ref a2]) X hK hA hG hI hb (q := (RX14, TX14, 2)) rfl (xet_X13_rising l b a1 a2 _ _ hs) iX13_rising RX13 w1 q1430 q1428 q1432 q1428 q117 q1441 (by decide +kernel) ⟨Nat.le_trans (Nat.le_of_ble_eq_true rfl) hR.1, Nat.le_trans (Nat.le_of_ble_eq_true rfl) hR.2⟩ rfl hsz rfl hrm hdg hf
    · replace hs := ifn h14 hs
      by_cases h15 : ci = 15
      · subst h15
        replace hs := ifp rfl hs
        exact x_runO (As := [.int a1, .ref a2]) X hK hA hG hI hb (q := (RX15, TX15, 2)) rfl (xet_X13_rising l b a1 a2 _ _ hs) iX13_rising RX13 w1 q1430 q1428 q1433 q1428 q117 q1441 (by decide +kernel) ⟨Nat.le_trans (Nat.le_of_ble_eq_true rfl) hR.1, Nat.le_trans (Nat.le_of_ble_eq_true rfl) hR.2⟩ rfl hsz rfl hrm hdg hf
      · replace hs := ifn h15 hs
        by_cases h16 : ci = 16
        · subst h16
          replace hs := ifp rfl hs
          exact x_runO (As := [.int a1, .ref a2]) X hK hA hG hI hb (q := (RX16, TX16, 2)) rfl (xet_X13_rising l b a1 a2 _ _ hs) iX13_rising RX13 w1 q1430 q1428 q1431 q1428 q117 q1441 (by decide +kernel) ⟨Nat.le_trans (Nat.le_of_ble_eq_true rfl) hR.1, Nat.le_trans (Nat.le_of_ble_eq_true rfl) hR.2⟩ rfl hsz rfl hrm hdg hf
        · replace hs := ifn h16 hs
          by_cases h17 : ci = 17
          · subst h17
            replace hs := ifp rfl hs
            exact x_runO (As := [.int a1, .ref a2]) X hK hA hG hI hb (q := (RX17, TX17, 2)) rfl (xet_X17_rising l b a1 a2 _ _ hs) iX17_rising RX13 w1 q1430 q1428 q1443 q1444 q121 q1441 (by decide +kernel) ⟨Nat.le_trans (Nat.le_of_ble_eq_true rfl) hR.1, Nat.le_trans (Nat.le_of_ble_eq_true rfl) hR.2⟩ rfl hsz rfl hrm hdg hf
          · replace hs := ifn h17 hs
            by_cases h18 : ci = 18
            · subst h18
              replace hs := ifp rfl hs
              exact x_runO (As := [.int a1, .ref a2]) X hK hA hG hI hb (q := (RX18, TX18, 2)) rfl (xet_X18_rising l b a1 a2 _ _ hs) iX18_rising RX13 w1 q1430 q1428 q1434 q1435 q122 q1441 (by decide +kernel) ⟨Nat.le_trans (Nat.le_of_ble_eq_true rfl) hR.1, Nat.le_trans (Nat.le_of_ble_eq_true rfl) hR.2⟩ rfl hsz rfl hrm hdg hf
            · replace hs := ifn h18 hs
              by_cases h19 : ci = 19
              · subst h19
                replace hs := ifp rfl hs
                exact x_runO (As := [.int a1, .ref a2]) X hK hA hG hI hb (q := (RX19, TX19, 2)) rfl (xet_X17_rising l b a1 a2 _ _ hs) iX17_rising RX13 w1 q1430 q1428 q1447 q1444 q121 q1441 (by decide +kernel) ⟨Nat.le_trans (Nat.le_of_ble_eq_true rfl) hR.1, Nat.le_trans (Nat.le_of_ble_eq_true rfl) hR.2⟩ rfl hsz rfl hrm hdg hf
              · replace hs := ifn h19 hs
                exact hs.elim
def x_X0_act (a0 : Nat) (a1 : Int32) (a2 : Int32) (a3 : Int32) (C : XH) (K : Int32 → XH → Prop) : Prop := obd (xgr C (xis 0) a0 2) (fun ad1 => obd (xpv C (xis 1) ad1 1 (.int 0)) (fun C2 => obd (xgr C2 (xis 0) a0 7) (fun ad3 => (xcl C2 ad3 = some 4 ∧ x_X4_isChild ad3 a1 C2 (fun r5 C4 => (if r5 = 0 then K 0 C4 else obd (xgr C4 (xis 0) a0 7) (fun ad7 => obd (xgr C4 (xis 4) ad7 6) (fun ad8 => obd (xar C4 7 ad8 a1) (fun ad9 => (if a2 = 0 then obd (xgr C4 (xis 0) a0 2) (fun ad11 => vd_X13_hopping ad9 a3 ad11 C4 (fun r13 C12 => K r13 C12)) else if a2 = 1 then obd (xgr C4 (xis 0) a0 2) (fun ad14 => vd_X13_falling ad9 a3 ad14 C4 (fun r16 C15 => K r16 C15)) else if a2 = 2 then obd (xgr C4 (xis 0) a0 2) (fun ad17 => vd_X13_rising ad9 a3 ad17 C4 (fun r19 C18 => K r19 C18)) else K 0 C4))))))))))
theorem iX0_act : xInf yX0_act cX0_act 5 (some .int) 3 := ⟨q1373, by decide +kernel⟩
set_option maxHeartbeats 4000000 in
theorem xet_X0_act (l : Launch) (a0 : Nat) (a1 : Int32) (a2 : Int32) (a3 : Int32) (C : XH) (K : Int32 → XH → Prop) (hs : x_X0_act a0 a1 a2 a3 C K) : xMeti l yX0_act (ws_ yX0_act cX0_act 5 (some .int)) 8 176 0 0 C [.ref a0, .int a1, .int a2, .int a3] K := by
  intro D dT adK adV sz
  refine xEnter (own := RX0) (Qc := xQi D dT K) (by decide) rfl (by rfl) ?_
  intro p e s m args below meth c A ls X hnm hK hA hG hI hl
  have hx := X.1
  have hb := X.2.1
  have hts := X.2.2.2.2.1
  have hown := X.2.2.2.2.2.1
  have hl : lv_has ls 5 [(0, .ref a0), (1, .int a1), (2, .int a2), (3, .int a3)] := hl
  unfold x_X0_act at hs
  refine lv_aload_n hx hb dX0_act_0 rfl (lv_at hl 0 rfl) ?_
  obtain ⟨ad1, ead1, hs⟩ := hs
  refine x_get (v := .ref ad1) X hK hI 0 2 rfl in_X0 rfl q330 rfl (xgr_spec ead1) dX0_act_1 ?_
  refine lv_iconst (v := 0) hx hb dX0_act_4 (by decide) ?_
  obtain ⟨C2, eC2, hs⟩ := hs
  refine x_put X hK hI 1 1 rfl in_X1 tyX1 tyX1_ok nmX1 rfl q149 rfl rfl rfl rfl eC2 dX0_act_5 (fun H locs hI => ?_)
  refine lv_aload_n hx hb dX0_act_8 rfl (lv_at hl 0 rfl) ?_
  obtain ⟨ad3, ead3, hs⟩ := hs
  refine x_get (v := .ref ad3) X hK hI 0 7 rfl in_X0 rfl q335 rfl (xgr_spec ead3) dX0_act_9 ?_
  refine lv_iload_n hx hb dX0_act_12 rfl (lv_at hl 1 rfl) ?_
  obtain ⟨h5, hs⟩ := hs
  obtain ⟨fh5, h5⟩ := xcl_spec h5
  refine x_goz hA hI (x_runV (As := [.int a1]) (rest := []) X hK hA hG hI h5 (q := (RX4, TX4, 13)) rfl rfl (xet_X4_isChild l ad3 a1 _ _ hs) iX4_isChild q653 q654 q655 q98 ⟨(Nat.le_of_ble_eq_true rfl), (Nat.le_of_ble_eq_true rfl)⟩ rfl hl.1 rfl (Nat.le_of_ble_eq_true rfl) dX0_act_13 ⟨(Nat.le_of_ble_eq_true rfl), (Nat.le_of_ble_eq_true rfl)⟩) (fun r5 C4 H locs br5 hs9 hI => ?_)
  replace hs := hs9
  refine lv_if_ne (tgt := 21) hx hb dX0_act_16 (by decide) (fun c19 => ?_) (fun c19 => ?_)
  · replace hs := ifn c19 hs
    refine lv_aload_n hx hb dX0_act_21 rfl (lv_at hl 0 rfl) ?_
    obtain ⟨ad7, ead7, hs⟩ := hs
    refine x_get (v := .ref ad7) X hK hI 0 7 rfl in_X0 rfl q335 rfl (xgr_spec ead7) dX0_act_22 ?_
    obtain ⟨ad8, ead8, hs⟩ := hs
    refine x_get (v := .ref ad8) X hK hI 4 6 rfl in_X4 rfl q272 rfl (xgr_spec ead8) dX0_act_25 ?_
    refine lv_iload_n hx hb dX0_act_28 rfl (lv_at hl 1 rfl) ?_
    obtain ⟨ad9, ead9, hs⟩ := hs
    refine x_aald X hK hI 7 rfl rfl ead9 dX0_act_29 ?_
    refine lv_astore (lv' := [(4, .ref ad9), (0, .ref a0), (1, .int a1), (2, .int a2), (3, .int a3)]) hx hb dX0_act_30 hl (by decide) rfl (fun ls hl => ?_)
    refine lv_iload_n hx hb dX0_act_32 rfl (lv_at hl 3 rfl) ?_
    by_cases c9_0 : a2 = 0
    · replace hs := ifp c9_0 hs
      refine lv_tableIn (tgt := 60) hx hb dX0_act_33 (by rw [c9_0]; decide) (by rw [c9_0]; decide) (by rw [c9_0]; rfl) (by decide) ?_
      refine lv_aload hx hb dX0_act_60 (lv_at hl 0 rfl) ?_
      refine lv_iload_n hx hb dX0_act_62 rfl (lv_at hl 4 rfl) ?_
      refine lv_aload_n hx hb dX0_act_63 rfl (lv_at hl 1 rfl) ?_
      obtain ⟨ad11, ead11, hs⟩ := hs
      refine x_get (v := .ref ad11) X hK hI 0 2 rfl in_X0 rfl q330 rfl (xgr_spec ead11) dX0_act_64 ?_
      refine x_goi hA hI (vdc_X13_hopping (rest := []) X hK hA hG hI ad9 a3 ad11 _ hs q1374 ⟨(Nat.le_of_ble_eq_true rfl), (Nat.le_of_ble_eq_true rfl)⟩ hl.1 (Nat.le_of_ble_eq_true rfl) dX0_act_67 ⟨(Nat.le_of_ble_eq_true rfl), (Nat.le_of_ble_eq_true rfl)⟩) (fun r13 C12 H locs hs9 hI => ?_)
      replace hs := hs9
      exact x_reti X hK hI hs (Nat.le_of_ble_eq_true rfl) (Nat.le_of_ble_eq_true rfl) dX0_act_70
    · replace hs := ifn c9_0 hs
      by_cases c9_1 : a2 = 1
      · replace hs := ifp c9_1 hs
        refine lv_tableIn (tgt := 71) hx hb dX0_act_33 (by rw [c9_1]; decide) (by rw [c9_1]; decide) (by rw [c9_1]; rfl) (by decide) ?_
        refine lv_aload hx hb dX0_act_71 (lv_at hl 0 rfl) ?_
        refine lv_iload_n hx hb dX0_act_73 rfl (lv_at hl 4 rfl) ?_
        refine lv_aload_n hx hb dX0_act_74 rfl (lv_at hl 1 rfl) ?_
        obtain ⟨ad14, ead14, hs⟩ := hs
        refine x_get (v := .ref ad14) X hK hI 0 2 rfl in_X0 rfl q330 rfl (xgr_spec ead14) dX0_act_75 ?_
        refine x_goi hA hI (vdc_X13_falling (rest := []) X hK hA hG hI ad9 a3 ad14 _ hs q1401 ⟨(Nat.le_of_ble_eq_true rfl), (Nat.le_of_ble_eq_true rfl)⟩ hl.1 (Nat.le_of_ble_eq_true rfl) dX0_act_78 ⟨(Nat.le_of_ble_eq_true rfl), (Nat.le_of_ble_eq_true rfl)⟩) (fun r16 C15 H locs hs9 hI => ?_)
        replace hs := hs9
        exact x_reti X hK hI hs (Nat.le_of_ble_eq_true rfl) (Nat.le_of_ble_eq_true rfl) dX0_act_81
      · replace hs := ifn c9_1 hs
        by_cases c9_2 : a2 = 2
        · replace hs := ifp c9_2 hs
          refine lv_tableIn (tgt := 82) hx hb dX0_act_33 (by rw [c9_2]; decide) (by rw [c9_2]; decide) (by rw [c9_2]; rfl) (by decide) ?_
          refine lv_aload hx hb dX0_act_82 (lv_at hl 0 rfl) ?_
          refine lv_iload_n hx hb dX0_act_84 rfl (lv_at hl 4 rfl) ?_
          refine lv_aload_n hx hb dX0_act_85 rfl (lv_at hl 1 rfl) ?_
          obtain ⟨ad17, ead17, hs⟩ := hs
          refine x_get (v := .ref ad17) X hK hI 0 2 rfl in_X0 rfl q330 rfl (xgr_spec ead17) dX0_act_86 ?_
          refine x_goi hA hI (vdc_X13_rising (rest := []) X hK hA hG hI ad9 a3 ad17 _ hs q1427 ⟨(Nat.le_of_ble_eq_true rfl), (Nat.le_of_ble_eq_true rfl)⟩ hl.1 (Nat.le_of_ble_eq_true rfl) dX0_act_89 ⟨(Nat.le_of_ble_eq_true rfl), (Nat.le_of_ble_eq_true rfl)⟩) (fun r19 C18 H locs hs9 hI => ?_)
          replace hs := hs9
          exact x_reti X hK hI hs (Nat.le_of_ble_eq_true rfl) (Nat.le_of_ble_eq_true rfl) dX0_act_92
        · replace hs := ifn c9_2 hs
          refine lv_tableOut (tgt := 93) hx hb dX0_act_33 (sw_out (fun k h1 h2 => by
            have h3 : k = 0 ∨ k = 1 ∨ k = 2 := by omega
            rcases h3 with rfl | rfl | rfl
            · exact lv_neT c9_0 rfl
            · exact lv_neT c9_1 rfl
            · exact lv_neT c9_2 rfl
            )) (by decide) ?_
          refine lv_iconst (v := 0) hx hb dX0_act_93 (by decide) ?_
          exact x_reti X hK hI hs (Nat.le_of_ble_eq_true rfl) (Nat.le_of_ble_eq_true rfl) dX0_act_94
  · replace hs := ifp c19 hs
    refine lv_iconst (v := 0) hx hb dX0_act_19 (by decide) ?_
    exact x_reti X hK hI hs (Nat.le_of_ble_eq_true rfl) (Nat.le_of_ble_eq_true rfl) dX0_act_20
def x_X0_trace (a0 : Nat) (a1 : Int32) (C : XH) (K : Int32 → XH → Prop) : Prop := obd (xgr C (xis 0) a0 2) (fun ad1 => obd (xgi C (xis 1) ad1 1) (fun v2 => x_X0_in ((a1 : Int32).toInt64) 0 ((((imin v2 20) - 1) : Int32).toInt64) C (fun r4 C3 => (if r4 = 0 then K (-1) C3 else obd (xgr C3 (xis 0) a0 2) (fun ad5 => obd (xgr C3 (xis 1) ad5 0) (fun ad6 => obd (xai C3 0 ad6 a1) (fun v7 => K v7 C3)))))))
theorem iX0_trace : xInf yX0_trace cX0_trace 2 (some .int) 1 := ⟨q1451, by decide +kernel⟩
set_option maxHeartbeats 4000000 in
theorem xet_X0_trace (l : Launch) (a0 : Nat) (a1 : Int32) (C : XH) (K : Int32 → XH → Prop) (hs : x_X0_trace a0 a1 C K) : xMeti l yX0_trace (ws_ yX0_trace cX0_trace 2 (some .int)) 1 25 0 0 C [.ref a0, .int a1] K := by
  intro D dT adK adV sz
  refine xEnter (own := RX0) (Qc := xQi D dT K) (by decide) rfl (by rfl) ?_
  intro p e s m args below meth c A ls X hnm hK hA hG hI hl
  have hx := X.1
  have hb := X.2.1
  have hts := X.2.2.2.2.1
  have hown := X.2.2.2.2.2.1
  have hl : lv_has ls 2 [(0, .ref a0), (1, .int a1)] := hl
  unfold x_X0_trace at hs
  refine lv_iload_n hx hb dX0_trace_0 rfl (lv_at hl 1 rfl) ?_
  refine lv_i2l (v := ((a1 : Int32).toInt64)) hx hb dX0_trace_1 rfl ?_
  refine lv_lconst (v := 0) hx hb dX0_trace_2 (by decide) ?_
  refine lv_aload_n hx hb dX0_trace_3 rfl (lv_at hl 0 rfl) ?_
  obtain ⟨ad1, ead1, hs⟩ := hs
  refine x_get (v := .ref ad1) X hK hI 0 2 rfl in_X0 rfl q330 rfl (xgr_spec ead1) dX0_trace_4 ?_
  obtain ⟨v2, ev2, hs⟩ := hs
  refine x_get (v := .int v2) X hK hI 1 1 rfl in_X1 rfl q149 rfl (xgi_spec ev2) dX0_trace_7 ?_
  refine lv_bipush (v := 20) hx hb dX0_trace_10 (by decide) ?_
  refine va_mmin (rest := [.long 0, .long ((a1 : Int32).toInt64)]) hx hb (X.2.2.2.1.trans hl.1.symm) hown (hts _ q1360) (hts _ q1175) (hts _ q116) (hts _ q1176) (Nat.le_of_ble_eq_true rfl) (Nat.le_of_ble_eq_true rfl) (Nat.le_of_ble_eq_true rfl) (Nat.le_of_ble_eq_true rfl) dX0_trace_12 ?_
  refine lv_iconst (v := 1) hx hb dX0_trace_15 (by decide) ?_
  refine lv_isub hx hb dX0_trace_16 ?_
  refine lv_i2l (v := ((((imin v2 20) - 1) : Int32).toInt64)) hx hb dX0_trace_17 rfl ?_
  refine x_goz hA hI (x_runS (As := [.long ((a1 : Int32).toInt64), .long 0, .long ((((imin v2 20) - 1) : Int32).toInt64)]) (rest := []) X hK hA hG hI (xet_X0_in l ((a1 : Int32).toInt64) 0 ((((imin v2 20) - 1) : Int32).toInt64) _ _ hs) iX0_in q473 q474 q94 ⟨(Nat.le_of_ble_eq_true rfl), (Nat.le_of_ble_eq_true rfl)⟩ rfl hl.1 rfl (Nat.le_of_ble_eq_true rfl) dX0_trace_18 ⟨(Nat.le_of_ble_eq_true rfl), (Nat.le_of_ble_eq_true rfl)⟩) (fun r4 C3 H locs br4 hs9 hI => ?_)
  replace hs := hs9
  refine lv_if_eq (tgt := 36) hx hb dX0_trace_21 (by decide) (fun c7 => ?_) (fun c7 => ?_)
  · replace hs := ifp c7 hs
    refine lv_iconst (v := (-1)) hx hb dX0_trace_36 (by decide) ?_
    exact x_reti X hK hI hs (Nat.le_of_ble_eq_true rfl) (Nat.le_of_ble_eq_true rfl) dX0_trace_37
  · replace hs := ifn c7 hs
    refine lv_aload_n hx hb dX0_trace_24 rfl (lv_at hl 0 rfl) ?_
    obtain ⟨ad5, ead5, hs⟩ := hs
    refine x_get (v := .ref ad5) X hK hI 0 2 rfl in_X0 rfl q330 rfl (xgr_spec ead5) dX0_trace_25 ?_
    obtain ⟨ad6, ead6, hs⟩ := hs
    refine x_get (v := .ref ad6) X hK hI 1 0 rfl in_X1 rfl q147 rfl (xgr_spec ead6) dX0_trace_28 ?_
    refine lv_iload_n hx hb dX0_trace_31 rfl (lv_at hl 1 rfl) ?_
    obtain ⟨v7, ev7, hs⟩ := hs
    refine x_iald X hK hI ev7 dX0_trace_32 ?_
    refine lv_goto (tgt := 37) hx hb dX0_trace_33 (by decide) ?_
    exact x_reti X hK hI hs (Nat.le_of_ble_eq_true rfl) (Nat.le_of_ble_eq_true rfl) dX0_trace_37
def x_X0_image (a0 : Nat) (C : XH) (K : Int32 → XH → Prop) : Prop := xnew C (.inr (4, [.int 0, .int 0, .int 0, .int 0, .int 0, .null, .null, .null, .null, .null, .null, .null, .null])) (fun ad1 C2 => x_X4_init ad1 C2 (fun C3 => obd (xgr C3 (xis 0) a0 7) (fun ad4 => (xcl C3 ad1 = some 4 ∧ x_X4_take ad1 ad4 C3 (fun ad6 C5 => obd (xpv C5 (xis 0) a0 8 (.ref ad6)) (fun C8 => obd (xgr C8 (xis 0) a0 7) (fun ad9 => obd (xgi C8 (xis 4) ad9 0) (fun v10 => K v10 C8))))))))
theorem iX0_image : xInf yX0_image cX0_image 1 (some .int) 0 := ⟨q1455, by decide +kernel⟩
set_option maxHeartbeats 4000000 in
theorem xet_X0_image (l : Launch) (a0 : Nat) (C : XH) (K : Int32 → XH → Prop) (hs : x_X0_image a0 C K) : xMeti l yX0_image (ws_ yX0_image cX0_image 1 (some .int)) 2 221 9 73 C [.ref a0] K := by
  intro D dT adK adV sz
  refine xEnter (own := RX0) (Qc := xQi D dT K) (by decide) rfl (by rfl) ?_
  intro p e s m args below meth c A ls X hnm hK hA hG hI hl
  have hx := X.1
  have hb := X.2.1
  have hts := X.2.2.2.2.1
  have hown := X.2.2.2.2.2.1
  have hl : lv_has ls 1 [(0, .ref a0)] := hl
  unfold x_X0_image at hs
  refine lv_aload_n hx hb dX0_image_0 rfl (lv_at hl 0 rfl) ?_
  refine x_new X hK hI hA 4 (fs := [.int 0, .int 0, .int 0, .int 0, .int 0, .null, .null, .null, .null, .null, .null, .null, .null]) rfl in_X4 tyX4 tyX4_ok q243 q244 q98 rfl (Nat.le_of_ble_eq_true rfl) (Nat.le_of_ble_eq_true rfl) hs dX0_image_1 (fun ad1 C2 H hs9 hI => ?_)
  replace hs := hs9
  refine lv_dup hx hb dX0_image_4 rfl ?_
  refine x_gov hA hI (x_runI (As := []) (rest := [.ref ad1, .ref a0]) X hK hA hG hI (xet_X4_init l ad1 _ _ hs) iX4_init rfl q245 q246 q98 ⟨(Nat.le_of_ble_eq_true rfl), (Nat.le_of_ble_eq_true rfl)⟩ rfl hl.1 rfl (Nat.le_of_ble_eq_true rfl) dX0_image_5 ⟨(Nat.le_of_ble_eq_true rfl), (Nat.le_of_ble_eq_true rfl)⟩) (fun C3 H locs hs9 hI => ?_)
  replace hs := hs9
  refine lv_aload_n hx hb dX0_image_8 rfl (lv_at hl 0 rfl) ?_
  obtain ⟨ad4, ead4, hs⟩ := hs
  refine x_get (v := .ref ad4) X hK hI 0 7 rfl in_X0 rfl q335 rfl (xgr_spec ead4) dX0_image_9 ?_
  obtain ⟨h6, hs⟩ := hs
  obtain ⟨fh6, h6⟩ := xcl_spec h6
  refine x_gor hA hI (x_runV (As := [.ref ad4]) (rest := [.ref a0]) X hK hA hG hI h6 (q := (RX4, TX4, 13)) rfl rfl (xet_X4_take l ad1 ad4 _ _ hs) iX4_take q949 q950 q951 q98 ⟨(Nat.le_of_ble_eq_true rfl), (Nat.le_of_ble_eq_true rfl)⟩ rfl hl.1 rfl (Nat.le_of_ble_eq_true rfl) dX0_image_12 ⟨(Nat.le_of_ble_eq_true rfl), (Nat.le_of_ble_eq_true rfl)⟩) (fun ad6 C5 H locs hs9 hI => ?_)
  replace hs := hs9
  obtain ⟨C8, eC8, hs⟩ := hs
  refine x_put X hK hI 0 8 rfl in_X0 tyX0 tyX0_ok nmX0 rfl q336 rfl rfl rfl rfl eC8 dX0_image_15 (fun H locs hI => ?_)
  refine lv_aload_n hx hb dX0_image_18 rfl (lv_at hl 0 rfl) ?_
  obtain ⟨ad9, ead9, hs⟩ := hs
  refine x_get (v := .ref ad9) X hK hI 0 7 rfl in_X0 rfl q335 rfl (xgr_spec ead9) dX0_image_19 ?_
  obtain ⟨v10, ev10, hs⟩ := hs
  refine x_get (v := .int v10) X hK hI 4 0 rfl in_X4 rfl q252 rfl (xgi_spec ev10) dX0_image_22 ?_
  exact x_reti X hK hI hs (Nat.le_of_ble_eq_true rfl) (Nat.le_of_ble_eq_true rfl) dX0_image_25
def x_X0_shelvesFollow_l10 (K : XH → Prop) (a0 : Nat) (ad1 : Nat) (v2 : Int32) : Nat → Int32 → XH → Prop
  | 0, _, _ => False
  | n10_4 + 1, x3, C4 => (if v2 ≤ x3 then K C4 else obd (xar C4 4 ad1 x3) (fun ad6 => (xcl C4 ad6 = some 5 ∧ x_X5_holdsHopper ad6 C4 (fun r8 C7 => jn (fun (C10 : XH) => x_X0_shelvesFollow_l10 K a0 ad1 v2 n10_4 (x3 + 1) C10) (fun k72_10 => (if r8 = 0 then k72_10 C7 else obd (xgo C7 (xis 5) ad6 0) (fun o11 => obd o11 (fun ad12 => (obd (xcl C7 ad12) (fun ci => xisH ci = true) ∧ obd (xgi C7 xisH ad12 0) (fun v14 => obd (xgr C7 (xis 0) a0 7) (fun ad15 => (xcl C7 ad15 = some 4 ∧ x_X4_isChild ad15 v14 C7 (fun r17 C16 => jn (fun (v19 : Option Nat) => obd (xpv C16 (xis 5) ad6 0 (va_rf v19)) (fun C20 => k72_10 C20)) (fun k69_19 => (if r17 = 0 then k69_19 none else obd (xgr C16 (xis 0) a0 7) (fun ad21 => obd (xgr C16 (xis 4) ad21 6) (fun ad22 => obd (xar C16 7 ad22 v14) (fun ad23 => k69_19 (some ad23)))))))))))))))))))
theorem x_X0_shelvesFollow_l10_s (K : XH → Prop) (a0 : Nat) (ad1 : Nat) (v2 : Int32) (n10_4 : Nat) (x3 : Int32) (C4 : XH) : x_X0_shelvesFollow_l10 K a0 ad1 v2 (n10_4 + 1) x3 C4 = ((if v2 ≤ x3 then K C4 else obd (xar C4 4 ad1 x3) (fun ad6 => (xcl C4 ad6 = some 5 ∧ x_X5_holdsHopper ad6 C4 (fun r8 C7 => jn (fun (C10 : XH) => x_X0_shelvesFollow_l10 K a0 ad1 v2 n10_4 (x3 + 1) C10) (fun k72_10 => (if r8 = 0 then k72_10 C7 else obd (xgo C7 (xis 5) ad6 0) (fun o11 => obd o11 (fun ad12 => (obd (xcl C7 ad12) (fun ci => xisH ci = true) ∧ obd (xgi C7 xisH ad12 0) (fun v14 => obd (xgr C7 (xis 0) a0 7) (fun ad15 => (xcl C7 ad15 = some 4 ∧ x_X4_isChild ad15 v14 C7 (fun r17 C16 => jn (fun (v19 : Option Nat) => obd (xpv C16 (xis 5) ad6 0 (va_rf v19)) (fun C20 => k72_10 C20)) (fun k69_19 => (if r17 = 0 then k69_19 none else obd (xgr C16 (xis 0) a0 7) (fun ad21 => obd (xgr C16 (xis 4) ad21 6) (fun ad22 => obd (xar C16 7 ad22 v14) (fun ad23 => k69_19 (some ad23)))))))))))))))))))) := rfl
def x_X0_shelvesFollow (a0 : Nat) (C : XH) (K : XH → Prop) : Prop := obd (xgr C (xis 0) a0 0) (fun ad1 => obd (xan C 4 ad1) (fun v2 => x_X0_shelvesFollow_l10 K a0 ad1 v2 NF 0 C))
theorem iX0_shelvesFollow : xInf yX0_shelvesFollow cX0_shelvesFollow 6 none 0 := ⟨q1463, by decide +kernel⟩
set_option maxHeartbeats 4000000 in
theorem xet_X0_shelvesFollow (l : Launch) (a0 : Nat) (C : XH) (K : XH → Prop) (hs : x_X0_shelvesFollow a0 C K) : xMetv l yX0_shelvesFollow (ws_ yX0_shelvesFollow cX0_shelvesFollow 6 none) 2 46 0 0 C [.ref a0] K := by
  intro D dT adK adV sz
  refine xEnter (own := RX0) (Qc := xQv D dT K) (by decide) rfl (by rfl) ?_
  intro p e s m args below meth c A ls X hnm hK hA hG hI hl
  have hx := X.1
  have hb := X.2.1
  have hts := X.2.2.2.2.1
  have hown := X.2.2.2.2.2.1
  have hl : lv_has ls 6 [(0, .ref a0)] := hl
  unfold x_X0_shelvesFollow at hs
  refine lv_aload_n hx hb dX0_shelvesFollow_0 rfl (lv_at hl 0 rfl) ?_
  obtain ⟨ad1, ead1, hs⟩ := hs
  refine x_get (v := .ref ad1) X hK hI 0 0 rfl in_X0 rfl q328 rfl (xgr_spec ead1) dX0_shelvesFollow_1 ?_
  refine lv_astore_n (lv' := [(1, .ref ad1), (0, .ref a0)]) hx hb dX0_shelvesFollow_4 rfl hl (by decide) rfl (fun ls hl => ?_)
  refine lv_aload_n hx hb dX0_shelvesFollow_5 rfl (lv_at hl 0 rfl) ?_
  obtain ⟨v2, ev2, hs⟩ := hs
  refine x_alen X hK hI 4 rfl ev2 dX0_shelvesFollow_6 ?_
  refine lv_istore_n (lv' := [(2, .int v2), (1, .ref ad1), (0, .ref a0)]) hx hb dX0_shelvesFollow_7 rfl hl (by decide) rfl (fun ls hl => ?_)
  refine lv_iconst (v := 0) hx hb dX0_shelvesFollow_8 (by decide) ?_
  refine lv_istore_n (lv' := [(3, .int 0), (2, .int v2), (1, .ref ad1), (0, .ref a0)]) hx hb dX0_shelvesFollow_9 rfl hl (by decide) rfl (fun ls hl => ?_)
  have Lx_X0_shelvesFollow_l10 : ∀ (n10_4 : Nat) (x3 : Int32) (C4 : XH) (H : Heap) (locs : List Loc) (ls : Array Slot), x_X0_shelvesFollow_l10 K a0 ad1 v2 n10_4 x3 C4 → xI D dT A s.heap C4 H locs → lv_has ls 6 [(0, .ref a0), (1, .ref ad1), (2, .int v2), (3, .int x3)] → W p l e (xRm 2 46 0 0) s m args below meth c H locs 0 0 (MQ below (xQv D dT K A) args s 0 0 A) (F0 m 10 ls []) := by
    intro n10_4
    induction n10_4 with
    | zero =>
      intro x3 C4 H locs ls hs
      exact False.elim hs
    | succ n10_4 ihx_X0_shelvesFollow_l10 =>
      intro x3 C4 H locs ls hs hI hl
      rw [x_X0_shelvesFollow_l10_s] at hs
      refine lv_iload_n hx hb dX0_shelvesFollow_10 rfl (lv_at hl 3 rfl) ?_
      refine lv_iload_n hx hb dX0_shelvesFollow_11 rfl (lv_at hl 2 rfl) ?_
      refine lv_icmp_ge (tgt := 78) hx hb dX0_shelvesFollow_12 (by decide) (fun c25 => ?_) (fun c25 => ?_)
      · replace hs := ifp c25 hs
        exact x_retv X hK hI hs (Nat.le_of_ble_eq_true rfl) (Nat.le_of_ble_eq_true rfl) dX0_shelvesFollow_78
      · replace hs := ifn c25 hs
        refine lv_aload_n hx hb dX0_shelvesFollow_15 rfl (lv_at hl 1 rfl) ?_
        refine lv_iload_n hx hb dX0_shelvesFollow_16 rfl (lv_at hl 3 rfl) ?_
        obtain ⟨ad6, ead6, hs⟩ := hs
        refine x_aald X hK hI 4 rfl rfl ead6 dX0_shelvesFollow_17 ?_
        refine lv_astore (lv' := [(4, .ref ad6), (0, .ref a0), (1, .ref ad1), (2, .int v2), (3, .int x3)]) hx hb dX0_shelvesFollow_18 hl (by decide) rfl (fun ls hl => ?_)
        refine lv_aload hx hb dX0_shelvesFollow_20 (lv_at hl 0 rfl) ?_
        obtain ⟨h8, hs⟩ := hs
        obtain ⟨fh8, h8⟩ := xcl_spec h8
        refine x_goz hA hI (x_runV (As := []) (rest := []) X hK hA hG hI h8 (q := (RX5, TX5, 1)) rfl rfl (xet_X5_holdsHopper l ad6 _ _ hs) iX5_holdsHopper q588 q589 q590 q99 ⟨(Nat.le_of_ble_eq_true rfl), (Nat.le_of_ble_eq_true rfl)⟩ rfl hl.1 rfl (Nat.le_of_ble_eq_true rfl) dX0_shelvesFollow_22 ⟨(Nat.le_of_ble_eq_true rfl), (Nat.le_of_ble_eq_true rfl)⟩) (fun r8 C7 H locs br8 hs9 hI => ?_)
        replace hs := hs9
        obtain ⟨k72_10, hk72_10, hs⟩ := jn_ex hs
        have Ek72_10 : ∀ (C10 : XH) (H : Heap) (locs : List Loc) (ls : Array Slot), k72_10 C10 → xI D dT A s.heap C10 H locs → lv_has ls 6 [(0, .ref a0), (1, .ref ad1), (2, .int v2), (3, .int x3)] → W p l e (xRm 2 46 0 0) s m args below meth c H locs 0 0 (MQ below (xQv D dT K A) args s 0 0 A) (F0 m 72 ls []) := by
          intro C10 H locs ls hs hI hl
          rw [hk72_10] at hs
          refine lv_iinc (v := (x3 + 1)) (lv' := [(3, .int (x3 + 1)), (0, .ref a0), (1, .ref ad1), (2, .int v2)]) hx hb dX0_shelvesFollow_72 hl (k := 3) rfl (congrArg (fun z => x3 + z) (show Int32.ofInt (1) = 1 by decide)) (by decide) rfl (fun ls hl => ?_)
          refine lv_goto (tgt := 10) hx hb dX0_shelvesFollow_75 (by decide) ?_
          exact ihx_X0_shelvesFollow_l10 _ _ _ _ _ hs hI (lv_sub hl [1, 2, 3, 0] rfl)
        refine lv_if_eq (tgt := 72) hx hb dX0_shelvesFollow_25 (by decide) (fun c24 => ?_) (fun c24 => ?_)
        · replace hs := ifp c24 hs
          exact Ek72_10 _ _ _ _ hs hI (lv_sub hl [1, 2, 3, 4] rfl)
        · replace hs := ifn c24 hs
          refine lv_aload hx hb dX0_shelvesFollow_28 (lv_at hl 0 rfl) ?_
          obtain ⟨o11, eo11, hs⟩ := hs
          refine x_get (v := va_rf o11) X hK hI 5 0 rfl in_X5 rfl q324 rfl (xgo_spec eo11) dX0_shelvesFollow_30 ?_
          obtain ⟨ad12, ead12, hzad12⟩ := hs
          have hlad12 := hl
          cases ead12
          have hs := hzad12
          have hl := hlad12
          obtain ⟨z12, hs⟩ := hs
          refine x_castH X hK hG hI q662 z12 dX0_shelvesFollow_33 ?_
          obtain ⟨v14, ev14, hs⟩ := hs
          refine x_getH (v := .int v14) X hK hI 0 (by decide) q803 (fun x hx => hx) (xgi_spec ev14) dX0_shelvesFollow_36 ?_
          refine lv_istore (lv' := [(5, .int v14), (4, .ref ad6), (0, .ref a0), (1, .ref ad1), (2, .int v2), (3, .int x3)]) hx hb dX0_shelvesFollow_39 hl (by decide) rfl (fun ls hl => ?_)
          refine lv_aload hx hb dX0_shelvesFollow_41 (lv_at hl 1 rfl) ?_
          refine lv_aload_n hx hb dX0_shelvesFollow_43 rfl (lv_at hl 2 rfl) ?_
          obtain ⟨ad15, ead15, hs⟩ := hs
          refine x_get (v := .ref ad15) X hK hI 0 7 rfl in_X0 rfl q335 rfl (xgr_spec ead15) dX0_shelvesFollow_44 ?_
          refine lv_iload hx hb dX0_shelvesFollow_47 (lv_at hl 0 rfl) ?_
          obtain ⟨h17, hs⟩ := hs
          obtain ⟨fh17, h17⟩ := xcl_spec h17
          refine x_goz hA hI (x_runV (As := [.int v14]) (rest := [.ref ad6]) X hK hA hG hI h17 (q := (RX4, TX4, 13)) rfl rfl (xet_X4_isChild l ad15 v14 _ _ hs) iX4_isChild q653 q654 q655 q98 ⟨(Nat.le_of_ble_eq_true rfl), (Nat.le_of_ble_eq_true rfl)⟩ rfl hl.1 rfl (Nat.le_of_ble_eq_true rfl) dX0_shelvesFollow_49 ⟨(Nat.le_of_ble_eq_true rfl), (Nat.le_of_ble_eq_true rfl)⟩) (fun r17 C16 H locs br17 hs9 hI => ?_)
          replace hs := hs9
          obtain ⟨k69_19, hk69_19, hs⟩ := jn_ex hs
          have Ek69_19 : ∀ (v19 : Option Nat) (H : Heap) (locs : List Loc) (ls : Array Slot), k69_19 v19 → xI D dT A s.heap C16 H locs → lv_has ls 6 [(0, .ref a0), (1, .ref ad1), (2, .int v2), (3, .int x3)] → W p l e (xRm 2 46 0 0) s m args below meth c H locs 0 0 (MQ below (xQv D dT K A) args s 0 0 A) (F0 m 69 ls [va_rf v19, .ref ad6]) := by
            intro v19 H locs ls hs hI hl
            rw [hk69_19] at hs
            obtain ⟨C20, eC20, hs⟩ := hs
            refine x_put X hK hI 5 0 rfl in_X5 tyX5 tyX5_ok nmX5 rfl q324 rfl rfl (by cases v19 <;> rfl) (by cases v19 <;> rfl) eC20 dX0_shelvesFollow_69 (fun H locs hI => ?_)
            exact Ek72_10 _ _ _ _ hs hI hl
          refine lv_if_eq (tgt := 68) hx hb dX0_shelvesFollow_52 (by decide) (fun c23 => ?_) (fun c23 => ?_)
          · replace hs := ifp c23 hs
            refine lv_null hx hb dX0_shelvesFollow_68 ?_
            exact Ek69_19 _ _ _ _ hs hI (lv_sub hl [2, 3, 4, 5] rfl)
          · replace hs := ifn c23 hs
            refine lv_aload_n hx hb dX0_shelvesFollow_55 rfl (lv_at hl 2 rfl) ?_
            obtain ⟨ad21, ead21, hs⟩ := hs
            refine x_get (v := .ref ad21) X hK hI 0 7 rfl in_X0 rfl q335 rfl (xgr_spec ead21) dX0_shelvesFollow_56 ?_
            obtain ⟨ad22, ead22, hs⟩ := hs
            refine x_get (v := .ref ad22) X hK hI 4 6 rfl in_X4 rfl q272 rfl (xgr_spec ead22) dX0_shelvesFollow_59 ?_
            refine lv_iload hx hb dX0_shelvesFollow_62 (lv_at hl 0 rfl) ?_
            obtain ⟨ad23, ead23, hs⟩ := hs
            refine x_aald X hK hI 7 rfl rfl ead23 dX0_shelvesFollow_64 ?_
            refine lv_goto (tgt := 69) hx hb dX0_shelvesFollow_65 (by decide) ?_
            exact Ek69_19 _ _ _ _ hs hI (lv_sub hl [2, 3, 4, 5] rfl)
  exact Lx_X0_shelvesFollow_l10 NF _ _ _ _ _ hs hI (lv_sub hl [3, 2, 1, 0] rfl)
def x_X0_restore (a0 : Nat) (C : XH) (K : Int32 → XH → Prop) : Prop := obd (xgo C (xis 0) a0 8) (fun o1 => jn (fun (v2 : Int32) => x_X0_need v2 (-6) C (fun C3 => xnew C3 (.inr (4, [.int 0, .int 0, .int 0, .int 0, .int 0, .null, .null, .null, .null, .null, .null, .null, .null])) (fun ad4 C5 => x_X4_init ad4 C5 (fun C6 => obd (xgo C6 (xis 0) a0 8) (fun o7 => obd o7 (fun ad8 => (xcl C6 ad4 = some 4 ∧ x_X4_take ad4 ad8 C6 (fun ad10 C9 => obd (xpv C9 (xis 0) a0 7 (.ref ad10)) (fun C12 => (xcl C12 a0 = some 0 ∧ x_X0_shelvesFollow a0 C12 (fun C13 => obd (xgr C13 (xis 0) a0 7) (fun ad15 => obd (xgi C13 (xis 4) ad15 0) (fun v16 => K v16 C13)))))))))))) (fun ad17 C18 => (xcl C18 a0 = some 0 ∧ x_X0_refused a0 ad17 C18 (fun r20 C19 => K r20 C19)))) (fun k12_2 => xopt o1 (k12_2 0) (fun ad22 => k12_2 1)))
theorem iX0_restore : xInfW yX0_restore cX0_restore 2 (some .int) [(0, 46, 47, 21)] 0 := ⟨q1459, by decide +kernel⟩
set_option maxHeartbeats 4000000 in
theorem xet_X0_restore (l : Launch) (hl0 : l.stackTraces = false) (a0 : Nat) (C : XH) (K : Int32 → XH → Prop) (hs : x_X0_restore a0 C K) : xMetX l yX0_restore (wsW_ yX0_restore cX0_restore 2 (some .int) [(0, 46, 47, 21)]) 5 221 10 80 C [.ref a0] (fun D dT A => xQi D dT K A) xE0 := by
  intro D dT adK adV sz
  refine xEnterW (own := RX0) (Qc := xQi D dT K) (XC := xXC D dT xE0) (by decide) rfl (by rfl) ?_
  intro p e s m args below meth c A ls X hnm hK hA hG hT hI hl
  have hx := X.1
  have hb := X.2.1
  have hts := X.2.2.2.2.1
  have hown := X.2.2.2.2.2.1
  have hl : lv_has ls 2 [(0, .ref a0)] := hl
  unfold x_X0_restore at hs
  refine lv_aload_n hx hb dX0_restore_0 rfl (lv_at hl 0 rfl) ?_
  obtain ⟨o1, eo1, hs⟩ := hs
  refine x_get (v := va_rf o1) X hK hI 0 8 rfl in_X0 rfl q336 rfl (xgo_spec eo1) dX0_restore_1 ?_
  obtain ⟨k12_2, hk12_2, hs⟩ := jn_ex hs
  have Ek12_2 : ∀ (v2 : Int32) (H : Heap) (locs : List Loc) (ls : Array Slot), k12_2 v2 → xI D dT A s.heap C H locs → lv_has ls 2 [(0, .ref a0)] → W p l e (xRm 5 221 10 80) s m args below meth c H locs 0 0 (vx_MQ below (xQi D dT K A) (xXC D dT xE0 A) args s 10 80 A) (F0 m 12 ls [.int v2]) := by
    intro v2 H locs ls hs hI hl
    rw [hk12_2] at hs
    refine lv_bipush (v := (-6)) hx hb dX0_restore_12 (by decide) ?_
    refine xT_gov hA hI (x_runST (As := [.int v2, .int (-6)]) (rest := []) X hK hA hG hI (xet_X0_need l hl0 v2 (-6) _ _ _ hs) iX0_need q469 q470 q94 ⟨(Nat.le_of_ble_eq_true rfl), (Nat.le_of_ble_eq_true rfl)⟩ rfl hl.1 rfl (Nat.le_of_ble_eq_true rfl) dX0_restore_14 ⟨(Nat.le_of_ble_eq_true rfl), (Nat.le_of_ble_eq_true rfl)⟩) (fun En ce ad17 C18 H locs hs9 hI hce hvm hcl => ?_) (fun C3 H locs hs9 hI => ?_)
    · obtain ⟨rfl, hs0⟩ := hs9
      replace hs := hs0
      refine x_catch (k := 0) (a1 := 0) (a2 := 46) (a3 := 47) (a4 := 21) X hG hT rfl (x_cov rfl) rfl (by decide) q363 (by decide) hce hvm hcl ?_
      refine lv_astore_n (lv' := [(1, .ref ad17), (0, .ref a0)]) hx hb dX0_restore_47 rfl hl (by decide) rfl (fun ls hl => ?_)
      refine lv_aload_n hx hb dX0_restore_48 rfl (lv_at hl 1 rfl) ?_
      refine lv_aload_n hx hb dX0_restore_49 rfl (lv_at hl 0 rfl) ?_
      obtain ⟨h20, hs⟩ := hs
      obtain ⟨fh20, h20⟩ := xcl_spec h20
      refine x_goi hA hI (x_runV (As := [.ref ad17]) (rest := []) X hK hA hG hI h20 (q := (RX0, TX0, 10)) rfl rfl (xet_X0_refused l a0 ad17 _ _ hs) iX0_refused q538 q540 qs2 q94 ⟨(Nat.le_of_ble_eq_true rfl), (Nat.le_of_ble_eq_true rfl)⟩ rfl hl.1 rfl (Nat.le_of_ble_eq_true rfl) dX0_restore_50 ⟨(Nat.le_of_ble_eq_true rfl), (Nat.le_of_ble_eq_true rfl)⟩) (fun r20 C19 H locs hs9 hI => ?_)
      replace hs := hs9
      exact vx_ret (x_reti X hK hI hs (Nat.le_of_ble_eq_true rfl) (Nat.le_of_ble_eq_true rfl) dX0_restore_53)
    · replace hs := hs9
      refine lv_aload_n hx hb dX0_restore_17 rfl (lv_at hl 0 rfl) ?_
      refine x_new X hK hI hA 4 (fs := [.int 0, .int 0, .int 0, .int 0, .int 0, .null, .null, .null, .null, .null, .null, .null, .null]) rfl in_X4 tyX4 tyX4_ok q243 q244 q98 rfl (Nat.le_of_ble_eq_true rfl) (Nat.le_of_ble_eq_true rfl) hs dX0_restore_18 (fun ad4 C5 H hs9 hI => ?_)
      replace hs := hs9
      refine lv_dup hx hb dX0_restore_21 rfl ?_
      refine x_gov hA hI (x_runI (As := []) (rest := [.ref ad4, .ref a0]) X hK hA hG hI (xet_X4_init l ad4 _ _ hs) iX4_init rfl q245 q246 q98 ⟨(Nat.le_of_ble_eq_true rfl), (Nat.le_of_ble_eq_true rfl)⟩ rfl hl.1 rfl (Nat.le_of_ble_eq_true rfl) dX0_restore_22 ⟨(Nat.le_of_ble_eq_true rfl), (Nat.le_of_ble_eq_true rfl)⟩) (fun C6 H locs hs9 hI => ?_)
      replace hs := hs9
      refine lv_aload_n hx hb dX0_restore_25 rfl (lv_at hl 0 rfl) ?_
      obtain ⟨o7, eo7, hs⟩ := hs
      refine x_get (v := va_rf o7) X hK hI 0 8 rfl in_X0 rfl q336 rfl (xgo_spec eo7) dX0_restore_26 ?_
      obtain ⟨ad8, ead8, hzad8⟩ := hs
      have hlad8 := hl
      cases ead8
      have hs := hzad8
      have hl := hlad8
      obtain ⟨h10, hs⟩ := hs
      obtain ⟨fh10, h10⟩ := xcl_spec h10
      refine x_gor hA hI (x_runV (As := [.ref ad8]) (rest := [.ref a0]) X hK hA hG hI h10 (q := (RX4, TX4, 13)) rfl rfl (xet_X4_take l ad4 ad8 _ _ hs) iX4_take q949 q950 q951 q98 ⟨(Nat.le_of_ble_eq_true rfl), (Nat.le_of_ble_eq_true rfl)⟩ rfl hl.1 rfl (Nat.le_of_ble_eq_true rfl) dX0_restore_29 ⟨(Nat.le_of_ble_eq_true rfl), (Nat.le_of_ble_eq_true rfl)⟩) (fun ad10 C9 H locs hs9 hI => ?_)
      replace hs := hs9
      obtain ⟨C12, eC12, hs⟩ := hs
      refine x_put X hK hI 0 7 rfl in_X0 tyX0 tyX0_ok nmX0 rfl q335 rfl rfl rfl rfl eC12 dX0_restore_32 (fun H locs hI => ?_)
      refine lv_aload_n hx hb dX0_restore_35 rfl (lv_at hl 0 rfl) ?_
      obtain ⟨h13, hs⟩ := hs
      obtain ⟨fh13, h13⟩ := xcl_spec h13
      refine x_gov hA hI (x_runV (As := []) (rest := []) X hK hA hG hI h13 (q := (RX0, TX0, 10)) rfl rfl (xet_X0_shelvesFollow l a0 _ _ hs) iX0_shelvesFollow q1460 q1462 qs38 q94 ⟨(Nat.le_of_ble_eq_true rfl), (Nat.le_of_ble_eq_true rfl)⟩ rfl hl.1 rfl (Nat.le_of_ble_eq_true rfl) dX0_restore_36 ⟨(Nat.le_of_ble_eq_true rfl), (Nat.le_of_ble_eq_true rfl)⟩) (fun C13 H locs hs9 hI => ?_)
      replace hs := hs9
      refine lv_aload_n hx hb dX0_restore_39 rfl (lv_at hl 0 rfl) ?_
      obtain ⟨ad15, ead15, hs⟩ := hs
      refine x_get (v := .ref ad15) X hK hI 0 7 rfl in_X0 rfl q335 rfl (xgr_spec ead15) dX0_restore_40 ?_
      obtain ⟨v16, ev16, hs⟩ := hs
      refine x_get (v := .int v16) X hK hI 4 0 rfl in_X4 rfl q252 rfl (xgi_spec ev16) dX0_restore_43 ?_
      exact vx_ret (x_reti X hK hI hs (Nat.le_of_ble_eq_true rfl) (Nat.le_of_ble_eq_true rfl) dX0_restore_46)
  obtain ⟨nad22, rad22⟩ := hs
  have hlad22 := hl
  rcases o1 with _ | ad22
  · have hs := nad22 rfl
    have hl := hlad22
    refine lv_ifnullN (tgt := 11) hx hb dX0_restore_4 (by decide) ?_
    refine lv_iconst (v := 0) hx hb dX0_restore_11 (by decide) ?_
    exact Ek12_2 _ _ _ _ hs hI hl
  · have hs := rad22 ad22 rfl
    have hl := hlad22
    refine lv_ifnull hx hb dX0_restore_4 ?_
    refine lv_iconst (v := 1) hx hb dX0_restore_7 (by decide) ?_
    refine lv_goto (tgt := 12) hx hb dX0_restore_8 (by decide) ?_
    exact Ek12_2 _ _ _ _ hs hI hl
def x_X0_status (a0 : Nat) (a1 : Int32) (C : XH) (K : Int32 → XH → Prop) : Prop := x_X0_in ((a1 : Int32).toInt64) 2 5 C (fun r2 C1 => (if r2 = 0 then (if a1 = 0 then obd (xgr C1 (xis 0) a0 7) (fun ad4 => obd (xgi C1 (xis 4) ad4 0) (fun v5 => K v5 C1)) else if a1 = 1 then obd (xgr C1 (xis 0) a0 7) (fun ad6 => obd (xgi C1 (xis 4) ad6 1) (fun v7 => K v7 C1)) else if a1 = 2 then x_X0_in ((a1 : Int32).toInt64) 11 17 C1 (fun r9 C8 => (if r9 = 0 then K (-1) C8 else obd (xgr C8 (xis 0) a0 1) (fun ad10 => obd (xai C8 0 ad10 (a1 - 10)) (fun v11 => K v11 C8)))) else if a1 = 3 then x_X0_in ((a1 : Int32).toInt64) 11 17 C1 (fun r14 C13 => (if r14 = 0 then K (-1) C13 else obd (xgr C13 (xis 0) a0 1) (fun ad15 => obd (xai C13 0 ad15 (a1 - 10)) (fun v16 => K v16 C13)))) else if a1 = 4 then x_X0_in ((a1 : Int32).toInt64) 11 17 C1 (fun r19 C18 => (if r19 = 0 then K (-1) C18 else obd (xgr C18 (xis 0) a0 1) (fun ad20 => obd (xai C18 0 ad20 (a1 - 10)) (fun v21 => K v21 C18)))) else if a1 = 5 then x_X0_in ((a1 : Int32).toInt64) 11 17 C1 (fun r24 C23 => (if r24 = 0 then K (-1) C23 else obd (xgr C23 (xis 0) a0 1) (fun ad25 => obd (xai C23 0 ad25 (a1 - 10)) (fun v26 => K v26 C23)))) else if a1 = 6 then obd (xgr C1 (xis 0) a0 7) (fun ad28 => obd (xgi C1 (xis 4) ad28 3) (fun v29 => (if v29 = 0 then K 0 C1 else K 1 C1))) else if a1 = 7 then obd (xgr C1 (xis 0) a0 7) (fun ad31 => obd (xgi C1 (xis 4) ad31 2) (fun v32 => K v32 C1)) else if a1 = 8 then obd (xgr C1 (xis 0) a0 7) (fun ad33 => obd (xgi C1 (xis 4) ad33 4) (fun v34 => K v34 C1)) else if a1 = 9 then obd (xgr C1 (xis 0) a0 2) (fun ad35 => obd (xgi C1 (xis 1) ad35 1) (fun v36 => K v36 C1)) else x_X0_in ((a1 : Int32).toInt64) 11 17 C1 (fun r38 C37 => (if r38 = 0 then K (-1) C37 else obd (xgr C37 (xis 0) a0 1) (fun ad39 => obd (xai C37 0 ad39 (a1 - 10)) (fun v40 => K v40 C37))))) else obd (xgr C1 (xis 0) a0 7) (fun ad42 => obd (xgr C1 (xis 4) ad42 5) (fun ad43 => obd (xai C1 0 ad43 (a1 - 2)) (fun v44 => K v44 C1)))))
theorem iX0_status : xInf yX0_status cX0_status 2 (some .int) 1 := ⟨q1467, by decide +kernel⟩
set_option maxHeartbeats 4000000 in
theorem xet_X0_status (l : Launch) (a0 : Nat) (a1 : Int32) (C : XH) (K : Int32 → XH → Prop) (hs : x_X0_status a0 a1 C K) : xMeti l yX0_status (ws_ yX0_status cX0_status 2 (some .int)) 1 25 0 0 C [.ref a0, .int a1] K := by
  intro D dT adK adV sz
  refine xEnter (own := RX0) (Qc := xQi D dT K) (by decide) rfl (by rfl) ?_
  intro p e s m args below meth c A ls X hnm hK hA hG hI hl
  have hx := X.1
  have hb := X.2.1
  have hts := X.2.2.2.2.1
  have hown := X.2.2.2.2.2.1
  have hl : lv_has ls 2 [(0, .ref a0), (1, .int a1)] := hl
  unfold x_X0_status at hs
  refine lv_iload_n hx hb dX0_status_0 rfl (lv_at hl 1 rfl) ?_
  refine lv_i2l (v := ((a1 : Int32).toInt64)) hx hb dX0_status_1 rfl ?_
  refine lv_ldc2 hx hb hown (hts _ q1252) dX0_status_2 ?_
  refine lv_ldc2 hx hb hown (hts _ q1253) dX0_status_5 ?_
  refine x_goz hA hI (x_runS (As := [.long ((a1 : Int32).toInt64), .long 2, .long 5]) (rest := []) X hK hA hG hI (xet_X0_in l ((a1 : Int32).toInt64) 2 5 _ _ hs) iX0_in q473 q474 q94 ⟨(Nat.le_of_ble_eq_true rfl), (Nat.le_of_ble_eq_true rfl)⟩ rfl hl.1 rfl (Nat.le_of_ble_eq_true rfl) dX0_status_8 ⟨(Nat.le_of_ble_eq_true rfl), (Nat.le_of_ble_eq_true rfl)⟩) (fun r2 C1 H locs br2 hs9 hI => ?_)
  replace hs := hs9
  refine lv_if_eq (tgt := 26) hx hb dX0_status_11 (by decide) (fun c44 => ?_) (fun c44 => ?_)
  · replace hs := ifp c44 hs
    refine lv_iload_n hx hb dX0_status_26 rfl (lv_at hl 1 rfl) ?_
    by_cases c2_0 : a1 = 0
    · replace hs := ifp c2_0 hs
      refine lv_tableIn (tgt := 80) hx hb dX0_status_27 (by rw [c2_0]; decide) (by rw [c2_0]; decide) (by rw [c2_0]; rfl) (by decide) ?_
      refine lv_aload_n hx hb dX0_status_80 rfl (lv_at hl 0 rfl) ?_
      obtain ⟨ad4, ead4, hs⟩ := hs
      refine x_get (v := .ref ad4) X hK hI 0 7 rfl in_X0 rfl q335 rfl (xgr_spec ead4) dX0_status_81 ?_
      obtain ⟨v5, ev5, hs⟩ := hs
      refine x_get (v := .int v5) X hK hI 4 0 rfl in_X4 rfl q252 rfl (xgi_spec ev5) dX0_status_84 ?_
      exact x_reti X hK hI hs (Nat.le_of_ble_eq_true rfl) (Nat.le_of_ble_eq_true rfl) dX0_status_87
    · replace hs := ifn c2_0 hs
      by_cases c2_1 : a1 = 1
      · replace hs := ifp c2_1 hs
        refine lv_tableIn (tgt := 88) hx hb dX0_status_27 (by rw [c2_1]; decide) (by rw [c2_1]; decide) (by rw [c2_1]; rfl) (by decide) ?_
        refine lv_aload_n hx hb dX0_status_88 rfl (lv_at hl 0 rfl) ?_
        obtain ⟨ad6, ead6, hs⟩ := hs
        refine x_get (v := .ref ad6) X hK hI 0 7 rfl in_X0 rfl q335 rfl (xgr_spec ead6) dX0_status_89 ?_
        obtain ⟨v7, ev7, hs⟩ := hs
        refine x_get (v := .int v7) X hK hI 4 1 rfl in_X4 rfl q257 rfl (xgi_spec ev7) dX0_status_92 ?_
        exact x_reti X hK hI hs (Nat.le_of_ble_eq_true rfl) (Nat.le_of_ble_eq_true rfl) dX0_status_95
      · replace hs := ifn c2_1 hs
        by_cases c2_2 : a1 = 2
        · replace hs := ifp c2_2 hs
          refine lv_tableIn (tgt := 136) hx hb dX0_status_27 (by rw [c2_2]; decide) (by rw [c2_2]; decide) (by rw [c2_2]; rfl) (by decide) ?_
          refine lv_iload_n hx hb dX0_status_136 rfl (lv_at hl 1 rfl) ?_
          refine lv_i2l (v := ((a1 : Int32).toInt64)) hx hb dX0_status_137 rfl ?_
          refine lv_ldc2 hx hb hown (hts _ q1468) dX0_status_138 ?_
          refine lv_ldc2 hx hb hown (hts _ q1469) dX0_status_141 ?_
          refine x_goz hA hI (x_runS (As := [.long ((a1 : Int32).toInt64), .long 11, .long 17]) (rest := []) X hK hA hG hI (xet_X0_in l ((a1 : Int32).toInt64) 11 17 _ _ hs) iX0_in q473 q474 q94 ⟨(Nat.le_of_ble_eq_true rfl), (Nat.le_of_ble_eq_true rfl)⟩ rfl hl.1 rfl (Nat.le_of_ble_eq_true rfl) dX0_status_144 ⟨(Nat.le_of_ble_eq_true rfl), (Nat.le_of_ble_eq_true rfl)⟩) (fun r9 C8 H locs br9 hs9 hI => ?_)
          replace hs := hs9
          refine lv_if_eq (tgt := 162) hx hb dX0_status_147 (by decide) (fun c11 => ?_) (fun c11 => ?_)
          · replace hs := ifp c11 hs
            refine lv_iconst (v := (-1)) hx hb dX0_status_162 (by decide) ?_
            exact x_reti X hK hI hs (Nat.le_of_ble_eq_true rfl) (Nat.le_of_ble_eq_true rfl) dX0_status_163
          · replace hs := ifn c11 hs
            refine lv_aload_n hx hb dX0_status_150 rfl (lv_at hl 0 rfl) ?_
            obtain ⟨ad10, ead10, hs⟩ := hs
            refine x_get (v := .ref ad10) X hK hI 0 1 rfl in_X0 rfl q329 rfl (xgr_spec ead10) dX0_status_151 ?_
            refine lv_iload_n hx hb dX0_status_154 rfl (lv_at hl 1 rfl) ?_
            refine lv_bipush (v := 10) hx hb dX0_status_155 (by decide) ?_
            refine lv_isub hx hb dX0_status_157 ?_
            obtain ⟨v11, ev11, hs⟩ := hs
            refine x_iald X hK hI ev11 dX0_status_158 ?_
            refine lv_goto (tgt := 163) hx hb dX0_status_159 (by decide) ?_
            exact x_reti X hK hI hs (Nat.le_of_ble_eq_true rfl) (Nat.le_of_ble_eq_true rfl) dX0_status_163
        · replace hs := ifn c2_2 hs
          by_cases c2_3 : a1 = 3
          · replace hs := ifp c2_3 hs
            refine lv_tableIn (tgt := 136) hx hb dX0_status_27 (by rw [c2_3]; decide) (by rw [c2_3]; decide) (by rw [c2_3]; rfl) (by decide) ?_
            refine lv_iload_n hx hb dX0_status_136 rfl (lv_at hl 1 rfl) ?_
            refine lv_i2l (v := ((a1 : Int32).toInt64)) hx hb dX0_status_137 rfl ?_
            refine lv_ldc2 hx hb hown (hts _ q1468) dX0_status_138 ?_
            refine lv_ldc2 hx hb hown (hts _ q1469) dX0_status_141 ?_
            refine x_goz hA hI (x_runS (As := [.long ((a1 : Int32).toInt64), .long 11, .long 17]) (rest := []) X hK hA hG hI (xet_X0_in l ((a1 : Int32).toInt64) 11 17 _ _ hs) iX0_in q473 q474 q94 ⟨(Nat.le_of_ble_eq_true rfl), (Nat.le_of_ble_eq_true rfl)⟩ rfl hl.1 rfl (Nat.le_of_ble_eq_true rfl) dX0_status_144 ⟨(Nat.le_of_ble_eq_true rfl), (Nat.le_of_ble_eq_true rfl)⟩) (fun r14 C13 H locs br14 hs9 hI => ?_)
            replace hs := hs9
            refine lv_if_eq (tgt := 162) hx hb dX0_status_147 (by decide) (fun c16 => ?_) (fun c16 => ?_)
            · replace hs := ifp c16 hs
              refine lv_iconst (v := (-1)) hx hb dX0_status_162 (by decide) ?_
              exact x_reti X hK hI hs (Nat.le_of_ble_eq_true rfl) (Nat.le_of_ble_eq_true rfl) dX0_status_163
            · replace hs := ifn c16 hs
              refine lv_aload_n hx hb dX0_status_150 rfl (lv_at hl 0 rfl) ?_
              obtain ⟨ad15, ead15, hs⟩ := hs
              refine x_get (v := .ref ad15) X hK hI 0 1 rfl in_X0 rfl q329 rfl (xgr_spec ead15) dX0_status_151 ?_
              refine lv_iload_n hx hb dX0_status_154 rfl (lv_at hl 1 rfl) ?_
              refine lv_bipush (v := 10) hx hb dX0_status_155 (by decide) ?_
              refine lv_isub hx hb dX0_status_157 ?_
              obtain ⟨v16, ev16, hs⟩ := hs
              refine x_iald X hK hI ev16 dX0_status_158 ?_
              refine lv_goto (tgt := 163) hx hb dX0_status_159 (by decide) ?_
              exact x_reti X hK hI hs (Nat.le_of_ble_eq_true rfl) (Nat.le_of_ble_eq_true rfl) dX0_status_163
          · replace hs := ifn c2_3 hs
            by_cases c2_4 : a1 = 4
            · replace hs := ifp c2_4 hs
              refine lv_tableIn (tgt := 136) hx hb dX0_status_27 (by rw [c2_4]; decide) (by rw [c2_4]; decide) (by rw [c2_4]; rfl) (by decide) ?_
              refine lv_iload_n hx hb dX0_status_136 rfl (lv_at hl 1 rfl) ?_
              refine lv_i2l (v := ((a1 : Int32).toInt64)) hx hb dX0_status_137 rfl ?_
              refine lv_ldc2 hx hb hown (hts _ q1468) dX0_status_138 ?_
              refine lv_ldc2 hx hb hown (hts _ q1469) dX0_status_141 ?_
              refine x_goz hA hI (x_runS (As := [.long ((a1 : Int32).toInt64), .long 11, .long 17]) (rest := []) X hK hA hG hI (xet_X0_in l ((a1 : Int32).toInt64) 11 17 _ _ hs) iX0_in q473 q474 q94 ⟨(Nat.le_of_ble_eq_true rfl), (Nat.le_of_ble_eq_true rfl)⟩ rfl hl.1 rfl (Nat.le_of_ble_eq_true rfl) dX0_status_144 ⟨(Nat.le_of_ble_eq_true rfl), (Nat.le_of_ble_eq_true rfl)⟩) (fun r19 C18 H locs br19 hs9 hI => ?_)
              replace hs := hs9
              refine lv_if_eq (tgt := 162) hx hb dX0_status_147 (by decide) (fun c21 => ?_) (fun c21 => ?_)
              · replace hs := ifp c21 hs
                refine lv_iconst (v := (-1)) hx hb dX0_status_162 (by decide) ?_
                exact x_reti X hK hI hs (Nat.le_of_ble_eq_true rfl) (Nat.le_of_ble_eq_true rfl) dX0_status_163
              · replace hs := ifn c21 hs
                refine lv_aload_n hx hb dX0_status_150 rfl (lv_at hl 0 rfl) ?_
                obtain ⟨ad20, ead20, hs⟩ := hs
                refine x_get (v := .ref ad20) X hK hI 0 1 rfl in_X0 rfl q329 rfl (xgr_spec ead20) dX0_status_151 ?_
                refine lv_iload_n hx hb dX0_status_154 rfl (lv_at hl 1 rfl) ?_
                refine lv_bipush (v := 10) hx hb dX0_status_155 (by decide) ?_
                refine lv_isub hx hb dX0_status_157 ?_
                obtain ⟨v21, ev21, hs⟩ := hs
                refine x_iald X hK hI ev21 dX0_status_158 ?_
                refine lv_goto (tgt := 163) hx hb dX0_status_159 (by decide) ?_
                exact x_reti X hK hI hs (Nat.le_of_ble_eq_true rfl) (Nat.le_of_ble_eq_true rfl) dX0_status_163
            · replace hs := ifn c2_4 hs
              by_cases c2_5 : a1 = 5
              · replace hs := ifp c2_5 hs
                refine lv_tableIn (tgt := 136) hx hb dX0_status_27 (by rw [c2_5]; decide) (by rw [c2_5]; decide) (by rw [c2_5]; rfl) (by decide) ?_
                refine lv_iload_n hx hb dX0_status_136 rfl (lv_at hl 1 rfl) ?_
                refine lv_i2l (v := ((a1 : Int32).toInt64)) hx hb dX0_status_137 rfl ?_
                refine lv_ldc2 hx hb hown (hts _ q1468) dX0_status_138 ?_
                refine lv_ldc2 hx hb hown (hts _ q1469) dX0_status_141 ?_
                refine x_goz hA hI (x_runS (As := [.long ((a1 : Int32).toInt64), .long 11, .long 17]) (rest := []) X hK hA hG hI (xet_X0_in l ((a1 : Int32).toInt64) 11 17 _ _ hs) iX0_in q473 q474 q94 ⟨(Nat.le_of_ble_eq_true rfl), (Nat.le_of_ble_eq_true rfl)⟩ rfl hl.1 rfl (Nat.le_of_ble_eq_true rfl) dX0_status_144 ⟨(Nat.le_of_ble_eq_true rfl), (Nat.le_of_ble_eq_true rfl)⟩) (fun r24 C23 H locs br24 hs9 hI => ?_)
                replace hs := hs9
                refine lv_if_eq (tgt := 162) hx hb dX0_status_147 (by decide) (fun c26 => ?_) (fun c26 => ?_)
                · replace hs := ifp c26 hs
                  refine lv_iconst (v := (-1)) hx hb dX0_status_162 (by decide) ?_
                  exact x_reti X hK hI hs (Nat.le_of_ble_eq_true rfl) (Nat.le_of_ble_eq_true rfl) dX0_status_163
                · replace hs := ifn c26 hs
                  refine lv_aload_n hx hb dX0_status_150 rfl (lv_at hl 0 rfl) ?_
                  obtain ⟨ad25, ead25, hs⟩ := hs
                  refine x_get (v := .ref ad25) X hK hI 0 1 rfl in_X0 rfl q329 rfl (xgr_spec ead25) dX0_status_151 ?_
                  refine lv_iload_n hx hb dX0_status_154 rfl (lv_at hl 1 rfl) ?_
                  refine lv_bipush (v := 10) hx hb dX0_status_155 (by decide) ?_
                  refine lv_isub hx hb dX0_status_157 ?_
                  obtain ⟨v26, ev26, hs⟩ := hs
                  refine x_iald X hK hI ev26 dX0_status_158 ?_
                  refine lv_goto (tgt := 163) hx hb dX0_status_159 (by decide) ?_
                  exact x_reti X hK hI hs (Nat.le_of_ble_eq_true rfl) (Nat.le_of_ble_eq_true rfl) dX0_status_163
              · replace hs := ifn c2_5 hs
                by_cases c2_6 : a1 = 6
                · replace hs := ifp c2_6 hs
                  refine lv_tableIn (tgt := 96) hx hb dX0_status_27 (by rw [c2_6]; decide) (by rw [c2_6]; decide) (by rw [c2_6]; rfl) (by decide) ?_
                  refine lv_aload_n hx hb dX0_status_96 rfl (lv_at hl 0 rfl) ?_
                  obtain ⟨ad28, ead28, hs⟩ := hs
                  refine x_get (v := .ref ad28) X hK hI 0 7 rfl in_X0 rfl q335 rfl (xgr_spec ead28) dX0_status_97 ?_
                  obtain ⟨v29, ev29, hs⟩ := hs
                  refine x_get (v := .int v29) X hK hI 4 3 rfl in_X4 rfl q262 rfl (xgi_spec ev29) dX0_status_100 ?_
                  refine lv_if_eq (tgt := 110) hx hb dX0_status_103 (by decide) (fun c29 => ?_) (fun c29 => ?_)
                  · replace hs := ifp c29 hs
                    refine lv_iconst (v := 0) hx hb dX0_status_110 (by decide) ?_
                    exact x_reti X hK hI hs (Nat.le_of_ble_eq_true rfl) (Nat.le_of_ble_eq_true rfl) dX0_status_111
                  · replace hs := ifn c29 hs
                    refine lv_iconst (v := 1) hx hb dX0_status_106 (by decide) ?_
                    refine lv_goto (tgt := 111) hx hb dX0_status_107 (by decide) ?_
                    exact x_reti X hK hI hs (Nat.le_of_ble_eq_true rfl) (Nat.le_of_ble_eq_true rfl) dX0_status_111
                · replace hs := ifn c2_6 hs
                  by_cases c2_7 : a1 = 7
                  · replace hs := ifp c2_7 hs
                    refine lv_tableIn (tgt := 112) hx hb dX0_status_27 (by rw [c2_7]; decide) (by rw [c2_7]; decide) (by rw [c2_7]; rfl) (by decide) ?_
                    refine lv_aload_n hx hb dX0_status_112 rfl (lv_at hl 0 rfl) ?_
                    obtain ⟨ad31, ead31, hs⟩ := hs
                    refine x_get (v := .ref ad31) X hK hI 0 7 rfl in_X0 rfl q335 rfl (xgr_spec ead31) dX0_status_113 ?_
                    obtain ⟨v32, ev32, hs⟩ := hs
                    refine x_get (v := .int v32) X hK hI 4 2 rfl in_X4 rfl q259 rfl (xgi_spec ev32) dX0_status_116 ?_
                    exact x_reti X hK hI hs (Nat.le_of_ble_eq_true rfl) (Nat.le_of_ble_eq_true rfl) dX0_status_119
                  · replace hs := ifn c2_7 hs
                    by_cases c2_8 : a1 = 8
                    · replace hs := ifp c2_8 hs
                      refine lv_tableIn (tgt := 120) hx hb dX0_status_27 (by rw [c2_8]; decide) (by rw [c2_8]; decide) (by rw [c2_8]; rfl) (by decide) ?_
                      refine lv_aload_n hx hb dX0_status_120 rfl (lv_at hl 0 rfl) ?_
                      obtain ⟨ad33, ead33, hs⟩ := hs
                      refine x_get (v := .ref ad33) X hK hI 0 7 rfl in_X0 rfl q335 rfl (xgr_spec ead33) dX0_status_121 ?_
                      obtain ⟨v34, ev34, hs⟩ := hs
                      refine x_get (v := .int v34) X hK hI 4 4 rfl in_X4 rfl q264 rfl (xgi_spec ev34) dX0_status_124 ?_
                      exact x_reti X hK hI hs (Nat.le_of_ble_eq_true rfl) (Nat.le_of_ble_eq_true rfl) dX0_status_127
                    · replace hs := ifn c2_8 hs
                      by_cases c2_9 : a1 = 9
                      · replace hs := ifp c2_9 hs
                        refine lv_tableIn (tgt := 128) hx hb dX0_status_27 (by rw [c2_9]; decide) (by rw [c2_9]; decide) (by rw [c2_9]; rfl) (by decide) ?_
                        refine lv_aload_n hx hb dX0_status_128 rfl (lv_at hl 0 rfl) ?_
                        obtain ⟨ad35, ead35, hs⟩ := hs
                        refine x_get (v := .ref ad35) X hK hI 0 2 rfl in_X0 rfl q330 rfl (xgr_spec ead35) dX0_status_129 ?_
                        obtain ⟨v36, ev36, hs⟩ := hs
                        refine x_get (v := .int v36) X hK hI 1 1 rfl in_X1 rfl q149 rfl (xgi_spec ev36) dX0_status_132 ?_
                        exact x_reti X hK hI hs (Nat.le_of_ble_eq_true rfl) (Nat.le_of_ble_eq_true rfl) dX0_status_135
                      · replace hs := ifn c2_9 hs
                        refine lv_tableOut (tgt := 136) hx hb dX0_status_27 (sw_out (fun k h1 h2 => by
                          have h3 : k = 0 ∨ k = 1 ∨ k = 2 ∨ k = 3 ∨ k = 4 ∨ k = 5 ∨ k = 6 ∨ k = 7 ∨ k = 8 ∨ k = 9 := by omega
                          rcases h3 with rfl | rfl | rfl | rfl | rfl | rfl | rfl | rfl | rfl | rfl
                          · exact lv_neT c2_0 rfl
                          · exact lv_neT c2_1 rfl
                          · exact lv_neT c2_2 rfl
                          · exact lv_neT c2_3 rfl
                          · exact lv_neT c2_4 rfl
                          · exact lv_neT c2_5 rfl
                          · exact lv_neT c2_6 rfl
                          · exact lv_neT c2_7 rfl
                          · exact lv_neT c2_8 rfl
                          · exact lv_neT c2_9 rfl
                          )) (by decide) ?_
                        refine lv_iload_n hx hb dX0_status_136 rfl (lv_at hl 1 rfl) ?_
                        refine lv_i2l (v := ((a1 : Int32).toInt64)) hx hb dX0_status_137 rfl ?_
                        refine lv_ldc2 hx hb hown (hts _ q1468) dX0_status_138 ?_
                        refine lv_ldc2 hx hb hown (hts _ q1469) dX0_status_141 ?_
                        refine x_goz hA hI (x_runS (As := [.long ((a1 : Int32).toInt64), .long 11, .long 17]) (rest := []) X hK hA hG hI (xet_X0_in l ((a1 : Int32).toInt64) 11 17 _ _ hs) iX0_in q473 q474 q94 ⟨(Nat.le_of_ble_eq_true rfl), (Nat.le_of_ble_eq_true rfl)⟩ rfl hl.1 rfl (Nat.le_of_ble_eq_true rfl) dX0_status_144 ⟨(Nat.le_of_ble_eq_true rfl), (Nat.le_of_ble_eq_true rfl)⟩) (fun r38 C37 H locs br38 hs9 hI => ?_)
                        replace hs := hs9
                        refine lv_if_eq (tgt := 162) hx hb dX0_status_147 (by decide) (fun c40 => ?_) (fun c40 => ?_)
                        · replace hs := ifp c40 hs
                          refine lv_iconst (v := (-1)) hx hb dX0_status_162 (by decide) ?_
                          exact x_reti X hK hI hs (Nat.le_of_ble_eq_true rfl) (Nat.le_of_ble_eq_true rfl) dX0_status_163
                        · replace hs := ifn c40 hs
                          refine lv_aload_n hx hb dX0_status_150 rfl (lv_at hl 0 rfl) ?_
                          obtain ⟨ad39, ead39, hs⟩ := hs
                          refine x_get (v := .ref ad39) X hK hI 0 1 rfl in_X0 rfl q329 rfl (xgr_spec ead39) dX0_status_151 ?_
                          refine lv_iload_n hx hb dX0_status_154 rfl (lv_at hl 1 rfl) ?_
                          refine lv_bipush (v := 10) hx hb dX0_status_155 (by decide) ?_
                          refine lv_isub hx hb dX0_status_157 ?_
                          obtain ⟨v40, ev40, hs⟩ := hs
                          refine x_iald X hK hI ev40 dX0_status_158 ?_
                          refine lv_goto (tgt := 163) hx hb dX0_status_159 (by decide) ?_
                          exact x_reti X hK hI hs (Nat.le_of_ble_eq_true rfl) (Nat.le_of_ble_eq_true rfl) dX0_status_163
  · replace hs := ifn c44 hs
    refine lv_aload_n hx hb dX0_status_14 rfl (lv_at hl 0 rfl) ?_
    obtain ⟨ad42, ead42, hs⟩ := hs
    refine x_get (v := .ref ad42) X hK hI 0 7 rfl in_X0 rfl q335 rfl (xgr_spec ead42) dX0_status_15 ?_
    obtain ⟨ad43, ead43, hs⟩ := hs
    refine x_get (v := .ref ad43) X hK hI 4 5 rfl in_X4 rfl q268 rfl (xgr_spec ead43) dX0_status_18 ?_
    refine lv_iload_n hx hb dX0_status_21 rfl (lv_at hl 1 rfl) ?_
    refine lv_iconst (v := 2) hx hb dX0_status_22 (by decide) ?_
    refine lv_isub hx hb dX0_status_23 ?_
    obtain ⟨v44, ev44, hs⟩ := hs
    refine x_iald X hK hI ev44 dX0_status_24 ?_
    exact x_reti X hK hI hs (Nat.le_of_ble_eq_true rfl) (Nat.le_of_ble_eq_true rfl) dX0_status_25
